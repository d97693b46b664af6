/-! MC: decode rows (of claim/names) -/
set_option maxRecDepth 100000
abbrev cJ5_init : ByteArray := prog_49_method_1_code
def yJ5_init : MethodName := ⟨RJ5, "<init>", "(I)V"⟩
def dkwJ5_init_2 : List UInt8 := [182, 0, 25, 27, 182, 0, 29, 182, 0, 32, 183, 0, 36, 191, 177]
abbrev dktJ5_init_2 : List UInt8 := dkwJ5_init_2 ++ []
def dkwJ5_init_1 : List UInt8 := [178, 0, 15, 181, 0, 9, 167, 0, 30, 187, 0, 18, 89, 187, 0, 20, 89, 183, 0, 22, 18, 23]
abbrev dktJ5_init_1 : List UInt8 := dkwJ5_init_1 ++ dktJ5_init_2
def dkwJ5_init_0 : List UInt8 := [42, 183, 0, 1, 27, 158, 0, 14, 42, 27, 189, 0, 7, 181, 0, 9, 167, 0, 44, 27, 154, 0, 13, 42]
abbrev dktJ5_init_0 : List UInt8 := dkwJ5_init_0 ++ dktJ5_init_1
theorem dksJ5_init_0 : cJ5_init.data.toList.drop 0 = dktJ5_init_0 := by decide +kernel
theorem dksJ5_init_1 : cJ5_init.data.toList.drop 24 = dktJ5_init_1 := dk_seg dksJ5_init_0 24 rfl rfl
theorem dksJ5_init_2 : cJ5_init.data.toList.drop 46 = dktJ5_init_2 := dk_seg dksJ5_init_1 22 rfl rfl
theorem dJ5_init_0 : decode cJ5_init 0 = .ok (.aload_n 0, 1) := dk_42 (dk_at dksJ5_init_0 0 rfl rfl)
theorem dJ5_init_1 : decode cJ5_init 1 = .ok (.invokespecial 1, 3) := dk_183 0 1 (dk_at dksJ5_init_0 1 rfl rfl)
theorem dJ5_init_4 : decode cJ5_init 4 = .ok (.iload_n 1, 1) := dk_27 (dk_at dksJ5_init_0 4 rfl rfl)
theorem dJ5_init_5 : decode cJ5_init 5 = .ok (.ifCond .le 14, 3) := dk_158 0 14 (dk_at dksJ5_init_0 5 rfl rfl)
theorem dJ5_init_8 : decode cJ5_init 8 = .ok (.aload_n 0, 1) := dk_42 (dk_at dksJ5_init_0 8 rfl rfl)
theorem dJ5_init_9 : decode cJ5_init 9 = .ok (.iload_n 1, 1) := dk_27 (dk_at dksJ5_init_0 9 rfl rfl)
theorem dJ5_init_10 : decode cJ5_init 10 = .ok (.anewarray 7, 3) := dk_189 0 7 (dk_at dksJ5_init_0 10 rfl rfl)
theorem dJ5_init_13 : decode cJ5_init 13 = .ok (.putfield 9, 3) := dk_181 0 9 (dk_at dksJ5_init_0 13 rfl rfl)
theorem dJ5_init_16 : decode cJ5_init 16 = .ok (.goto 44, 3) := dk_167 0 44 (dk_at dksJ5_init_0 16 rfl rfl)
theorem dJ5_init_19 : decode cJ5_init 19 = .ok (.iload_n 1, 1) := dk_27 (dk_at dksJ5_init_0 19 rfl rfl)
theorem dJ5_init_20 : decode cJ5_init 20 = .ok (.ifCond .ne 13, 3) := dk_154 0 13 (dk_at dksJ5_init_0 20 rfl rfl)
theorem dJ5_init_23 : decode cJ5_init 23 = .ok (.aload_n 0, 1) := dk_42 (dk_at dksJ5_init_0 23 rfl rfl)
theorem dJ5_init_24 : decode cJ5_init 24 = .ok (.getstatic 15, 3) := dk_178 0 15 (dk_at dksJ5_init_1 0 rfl rfl)
theorem dJ5_init_27 : decode cJ5_init 27 = .ok (.putfield 9, 3) := dk_181 0 9 (dk_at dksJ5_init_1 3 rfl rfl)
theorem dJ5_init_30 : decode cJ5_init 30 = .ok (.goto 30, 3) := dk_167 0 30 (dk_at dksJ5_init_1 6 rfl rfl)
theorem dJ5_init_33 : decode cJ5_init 33 = .ok (.new 18, 3) := dk_187 0 18 (dk_at dksJ5_init_1 9 rfl rfl)
theorem dJ5_init_36 : decode cJ5_init 36 = .ok (.dup, 1) := dk_89 (dk_at dksJ5_init_1 12 rfl rfl)
theorem dJ5_init_37 : decode cJ5_init 37 = .ok (.new 20, 3) := dk_187 0 20 (dk_at dksJ5_init_1 13 rfl rfl)
theorem dJ5_init_40 : decode cJ5_init 40 = .ok (.dup, 1) := dk_89 (dk_at dksJ5_init_1 16 rfl rfl)
theorem dJ5_init_41 : decode cJ5_init 41 = .ok (.invokespecial 22, 3) := dk_183 0 22 (dk_at dksJ5_init_1 17 rfl rfl)
theorem dJ5_init_44 : decode cJ5_init 44 = .ok (.ldc 23, 2) := dk_18 23 (dk_at dksJ5_init_1 20 rfl rfl)
theorem dJ5_init_46 : decode cJ5_init 46 = .ok (.invokevirtual 25, 3) := dk_182 0 25 (dk_at dksJ5_init_2 0 rfl rfl)
theorem dJ5_init_49 : decode cJ5_init 49 = .ok (.iload_n 1, 1) := dk_27 (dk_at dksJ5_init_2 3 rfl rfl)
theorem dJ5_init_50 : decode cJ5_init 50 = .ok (.invokevirtual 29, 3) := dk_182 0 29 (dk_at dksJ5_init_2 4 rfl rfl)
theorem dJ5_init_53 : decode cJ5_init 53 = .ok (.invokevirtual 32, 3) := dk_182 0 32 (dk_at dksJ5_init_2 7 rfl rfl)
theorem dJ5_init_56 : decode cJ5_init 56 = .ok (.invokespecial 36, 3) := dk_183 0 36 (dk_at dksJ5_init_2 10 rfl rfl)
theorem dJ5_init_59 : decode cJ5_init 59 = .ok (.athrow, 1) := dk_191 (dk_at dksJ5_init_2 13 rfl rfl)
theorem dJ5_init_60 : decode cJ5_init 60 = .ok (.return_, 1) := dk_177 (dk_at dksJ5_init_2 14 rfl rfl)
abbrev cJ5_add : ByteArray := prog_49_method_25_code
def yJ5_add : MethodName := ⟨RJ5, "add", "(Ljava/lang/Object;)Z"⟩
def dkwJ5_add_1 : List UInt8 := [172]
abbrev dktJ5_add_1 : List UInt8 := dkwJ5_add_1 ++ []
def dkwJ5_add_0 : List UInt8 := [42, 89, 180, 0, 63, 4, 96, 181, 0, 63, 42, 43, 42, 180, 0, 9, 42, 180, 0, 48, 182, 0, 131, 4]
abbrev dktJ5_add_0 : List UInt8 := dkwJ5_add_0 ++ dktJ5_add_1
theorem dksJ5_add_0 : cJ5_add.data.toList.drop 0 = dktJ5_add_0 := by decide +kernel
theorem dksJ5_add_1 : cJ5_add.data.toList.drop 24 = dktJ5_add_1 := dk_seg dksJ5_add_0 24 rfl rfl
theorem dJ5_add_0 : decode cJ5_add 0 = .ok (.aload_n 0, 1) := dk_42 (dk_at dksJ5_add_0 0 rfl rfl)
theorem dJ5_add_1 : decode cJ5_add 1 = .ok (.dup, 1) := dk_89 (dk_at dksJ5_add_0 1 rfl rfl)
theorem dJ5_add_2 : decode cJ5_add 2 = .ok (.getfield 63, 3) := dk_180 0 63 (dk_at dksJ5_add_0 2 rfl rfl)
theorem dJ5_add_5 : decode cJ5_add 5 = .ok (.iconst 1, 1) := dk_4 (dk_at dksJ5_add_0 5 rfl rfl)
theorem dJ5_add_6 : decode cJ5_add 6 = .ok (.iadd, 1) := dk_96 (dk_at dksJ5_add_0 6 rfl rfl)
theorem dJ5_add_7 : decode cJ5_add 7 = .ok (.putfield 63, 3) := dk_181 0 63 (dk_at dksJ5_add_0 7 rfl rfl)
theorem dJ5_add_10 : decode cJ5_add 10 = .ok (.aload_n 0, 1) := dk_42 (dk_at dksJ5_add_0 10 rfl rfl)
theorem dJ5_add_11 : decode cJ5_add 11 = .ok (.aload_n 1, 1) := dk_43 (dk_at dksJ5_add_0 11 rfl rfl)
theorem dJ5_add_12 : decode cJ5_add 12 = .ok (.aload_n 0, 1) := dk_42 (dk_at dksJ5_add_0 12 rfl rfl)
theorem dJ5_add_13 : decode cJ5_add 13 = .ok (.getfield 9, 3) := dk_180 0 9 (dk_at dksJ5_add_0 13 rfl rfl)
theorem dJ5_add_16 : decode cJ5_add 16 = .ok (.aload_n 0, 1) := dk_42 (dk_at dksJ5_add_0 16 rfl rfl)
theorem dJ5_add_17 : decode cJ5_add 17 = .ok (.getfield 48, 3) := dk_180 0 48 (dk_at dksJ5_add_0 17 rfl rfl)
theorem dJ5_add_20 : decode cJ5_add 20 = .ok (.invokevirtual 131, 3) := dk_182 0 131 (dk_at dksJ5_add_0 20 rfl rfl)
theorem dJ5_add_23 : decode cJ5_add 23 = .ok (.iconst 1, 1) := dk_4 (dk_at dksJ5_add_0 23 rfl rfl)
theorem dJ5_add_24 : decode cJ5_add 24 = .ok (.ireturn, 1) := dk_172 (dk_at dksJ5_add_1 0 rfl rfl)
abbrev cJ5_add_2 : ByteArray := prog_49_method_24_code
def yJ5_add_2 : MethodName := ⟨RJ5, "add", "(Ljava/lang/Object;[Ljava/lang/Object;I)V"⟩
def dkwJ5_add_2_0 : List UInt8 := [29, 44, 190, 160, 0, 8, 42, 182, 0, 129, 77, 44, 29, 43, 83, 42, 29, 4, 96, 181, 0, 48, 177]
abbrev dktJ5_add_2_0 : List UInt8 := dkwJ5_add_2_0 ++ []
theorem dksJ5_add_2_0 : cJ5_add_2.data.toList.drop 0 = dktJ5_add_2_0 := by decide +kernel
theorem dJ5_add_2_0 : decode cJ5_add_2 0 = .ok (.iload_n 3, 1) := dk_29 (dk_at dksJ5_add_2_0 0 rfl rfl)
theorem dJ5_add_2_1 : decode cJ5_add_2 1 = .ok (.aload_n 2, 1) := dk_44 (dk_at dksJ5_add_2_0 1 rfl rfl)
theorem dJ5_add_2_2 : decode cJ5_add_2 2 = .ok (.arraylength, 1) := dk_190 (dk_at dksJ5_add_2_0 2 rfl rfl)
theorem dJ5_add_2_3 : decode cJ5_add_2 3 = .ok (.if_icmp .ne 8, 3) := dk_160 0 8 (dk_at dksJ5_add_2_0 3 rfl rfl)
theorem dJ5_add_2_6 : decode cJ5_add_2 6 = .ok (.aload_n 0, 1) := dk_42 (dk_at dksJ5_add_2_0 6 rfl rfl)
theorem dJ5_add_2_7 : decode cJ5_add_2 7 = .ok (.invokevirtual 129, 3) := dk_182 0 129 (dk_at dksJ5_add_2_0 7 rfl rfl)
theorem dJ5_add_2_10 : decode cJ5_add_2 10 = .ok (.astore_n 2, 1) := dk_77 (dk_at dksJ5_add_2_0 10 rfl rfl)
theorem dJ5_add_2_11 : decode cJ5_add_2 11 = .ok (.aload_n 2, 1) := dk_44 (dk_at dksJ5_add_2_0 11 rfl rfl)
theorem dJ5_add_2_12 : decode cJ5_add_2 12 = .ok (.iload_n 3, 1) := dk_29 (dk_at dksJ5_add_2_0 12 rfl rfl)
theorem dJ5_add_2_13 : decode cJ5_add_2 13 = .ok (.aload_n 1, 1) := dk_43 (dk_at dksJ5_add_2_0 13 rfl rfl)
theorem dJ5_add_2_14 : decode cJ5_add_2 14 = .ok (.aastore, 1) := dk_83 (dk_at dksJ5_add_2_0 14 rfl rfl)
theorem dJ5_add_2_15 : decode cJ5_add_2 15 = .ok (.aload_n 0, 1) := dk_42 (dk_at dksJ5_add_2_0 15 rfl rfl)
theorem dJ5_add_2_16 : decode cJ5_add_2 16 = .ok (.iload_n 3, 1) := dk_29 (dk_at dksJ5_add_2_0 16 rfl rfl)
theorem dJ5_add_2_17 : decode cJ5_add_2 17 = .ok (.iconst 1, 1) := dk_4 (dk_at dksJ5_add_2_0 17 rfl rfl)
theorem dJ5_add_2_18 : decode cJ5_add_2 18 = .ok (.iadd, 1) := dk_96 (dk_at dksJ5_add_2_0 18 rfl rfl)
theorem dJ5_add_2_19 : decode cJ5_add_2 19 = .ok (.putfield 48, 3) := dk_181 0 48 (dk_at dksJ5_add_2_0 19 rfl rfl)
theorem dJ5_add_2_22 : decode cJ5_add_2 22 = .ok (.return_, 1) := dk_177 (dk_at dksJ5_add_2_0 22 rfl rfl)
abbrev cJ5_grow : ByteArray := prog_49_method_7_code
def yJ5_grow : MethodName := ⟨RJ5, "grow", "()[Ljava/lang/Object;"⟩
def dkwJ5_grow_0 : List UInt8 := [42, 42, 180, 0, 48, 4, 96, 182, 0, 69, 176]
abbrev dktJ5_grow_0 : List UInt8 := dkwJ5_grow_0 ++ []
theorem dksJ5_grow_0 : cJ5_grow.data.toList.drop 0 = dktJ5_grow_0 := by decide +kernel
theorem dJ5_grow_0 : decode cJ5_grow 0 = .ok (.aload_n 0, 1) := dk_42 (dk_at dksJ5_grow_0 0 rfl rfl)
theorem dJ5_grow_1 : decode cJ5_grow 1 = .ok (.aload_n 0, 1) := dk_42 (dk_at dksJ5_grow_0 1 rfl rfl)
theorem dJ5_grow_2 : decode cJ5_grow 2 = .ok (.getfield 48, 3) := dk_180 0 48 (dk_at dksJ5_grow_0 2 rfl rfl)
theorem dJ5_grow_5 : decode cJ5_grow 5 = .ok (.iconst 1, 1) := dk_4 (dk_at dksJ5_grow_0 5 rfl rfl)
theorem dJ5_grow_6 : decode cJ5_grow 6 = .ok (.iadd, 1) := dk_96 (dk_at dksJ5_grow_0 6 rfl rfl)
theorem dJ5_grow_7 : decode cJ5_grow 7 = .ok (.invokevirtual 69, 3) := dk_182 0 69 (dk_at dksJ5_grow_0 7 rfl rfl)
theorem dJ5_grow_10 : decode cJ5_grow 10 = .ok (.areturn, 1) := dk_176 (dk_at dksJ5_grow_0 10 rfl rfl)
abbrev cJ5_grow_2 : ByteArray := prog_49_method_6_code
def yJ5_grow_2 : MethodName := ⟨RJ5, "grow", "(I)[Ljava/lang/Object;"⟩
def dkwJ5_grow_2_2 : List UInt8 := [27, 184, 0, 79, 189, 0, 7, 90, 181, 0, 9, 176]
abbrev dktJ5_grow_2_2 : List UInt8 := dkwJ5_grow_2_2 ++ []
def dkwJ5_grow_2_1 : List UInt8 := [28, 4, 122, 184, 0, 73, 62, 42, 42, 180, 0, 9, 29, 184, 0, 66, 90, 181, 0, 9, 176, 42, 16, 10]
abbrev dktJ5_grow_2_1 : List UInt8 := dkwJ5_grow_2_1 ++ dktJ5_grow_2_2
def dkwJ5_grow_2_0 : List UInt8 := [42, 180, 0, 9, 190, 61, 28, 157, 0, 13, 42, 180, 0, 9, 178, 0, 39, 165, 0, 28, 28, 27, 28, 100]
abbrev dktJ5_grow_2_0 : List UInt8 := dkwJ5_grow_2_0 ++ dktJ5_grow_2_1
theorem dksJ5_grow_2_0 : cJ5_grow_2.data.toList.drop 0 = dktJ5_grow_2_0 := by decide +kernel
theorem dksJ5_grow_2_1 : cJ5_grow_2.data.toList.drop 24 = dktJ5_grow_2_1 := dk_seg dksJ5_grow_2_0 24 rfl rfl
theorem dksJ5_grow_2_2 : cJ5_grow_2.data.toList.drop 48 = dktJ5_grow_2_2 := dk_seg dksJ5_grow_2_1 24 rfl rfl
theorem dJ5_grow_2_0 : decode cJ5_grow_2 0 = .ok (.aload_n 0, 1) := dk_42 (dk_at dksJ5_grow_2_0 0 rfl rfl)
theorem dJ5_grow_2_1 : decode cJ5_grow_2 1 = .ok (.getfield 9, 3) := dk_180 0 9 (dk_at dksJ5_grow_2_0 1 rfl rfl)
theorem dJ5_grow_2_4 : decode cJ5_grow_2 4 = .ok (.arraylength, 1) := dk_190 (dk_at dksJ5_grow_2_0 4 rfl rfl)
theorem dJ5_grow_2_5 : decode cJ5_grow_2 5 = .ok (.istore_n 2, 1) := dk_61 (dk_at dksJ5_grow_2_0 5 rfl rfl)
theorem dJ5_grow_2_6 : decode cJ5_grow_2 6 = .ok (.iload_n 2, 1) := dk_28 (dk_at dksJ5_grow_2_0 6 rfl rfl)
theorem dJ5_grow_2_7 : decode cJ5_grow_2 7 = .ok (.ifCond .gt 13, 3) := dk_157 0 13 (dk_at dksJ5_grow_2_0 7 rfl rfl)
theorem dJ5_grow_2_10 : decode cJ5_grow_2 10 = .ok (.aload_n 0, 1) := dk_42 (dk_at dksJ5_grow_2_0 10 rfl rfl)
theorem dJ5_grow_2_11 : decode cJ5_grow_2 11 = .ok (.getfield 9, 3) := dk_180 0 9 (dk_at dksJ5_grow_2_0 11 rfl rfl)
theorem dJ5_grow_2_14 : decode cJ5_grow_2 14 = .ok (.getstatic 39, 3) := dk_178 0 39 (dk_at dksJ5_grow_2_0 14 rfl rfl)
theorem dJ5_grow_2_17 : decode cJ5_grow_2 17 = .ok (.if_acmp .eq 28, 3) := dk_165 0 28 (dk_at dksJ5_grow_2_0 17 rfl rfl)
theorem dJ5_grow_2_20 : decode cJ5_grow_2 20 = .ok (.iload_n 2, 1) := dk_28 (dk_at dksJ5_grow_2_0 20 rfl rfl)
theorem dJ5_grow_2_21 : decode cJ5_grow_2 21 = .ok (.iload_n 1, 1) := dk_27 (dk_at dksJ5_grow_2_0 21 rfl rfl)
theorem dJ5_grow_2_22 : decode cJ5_grow_2 22 = .ok (.iload_n 2, 1) := dk_28 (dk_at dksJ5_grow_2_0 22 rfl rfl)
theorem dJ5_grow_2_23 : decode cJ5_grow_2 23 = .ok (.isub, 1) := dk_100 (dk_at dksJ5_grow_2_0 23 rfl rfl)
theorem dJ5_grow_2_24 : decode cJ5_grow_2 24 = .ok (.iload_n 2, 1) := dk_28 (dk_at dksJ5_grow_2_1 0 rfl rfl)
theorem dJ5_grow_2_25 : decode cJ5_grow_2 25 = .ok (.iconst 1, 1) := dk_4 (dk_at dksJ5_grow_2_1 1 rfl rfl)
theorem dJ5_grow_2_26 : decode cJ5_grow_2 26 = .ok (.ishr, 1) := dk_122 (dk_at dksJ5_grow_2_1 2 rfl rfl)
theorem dJ5_grow_2_27 : decode cJ5_grow_2 27 = .ok (.invokestatic 73, 3) := dk_184 0 73 (dk_at dksJ5_grow_2_1 3 rfl rfl)
theorem dJ5_grow_2_30 : decode cJ5_grow_2 30 = .ok (.istore_n 3, 1) := dk_62 (dk_at dksJ5_grow_2_1 6 rfl rfl)
theorem dJ5_grow_2_31 : decode cJ5_grow_2 31 = .ok (.aload_n 0, 1) := dk_42 (dk_at dksJ5_grow_2_1 7 rfl rfl)
theorem dJ5_grow_2_32 : decode cJ5_grow_2 32 = .ok (.aload_n 0, 1) := dk_42 (dk_at dksJ5_grow_2_1 8 rfl rfl)
theorem dJ5_grow_2_33 : decode cJ5_grow_2 33 = .ok (.getfield 9, 3) := dk_180 0 9 (dk_at dksJ5_grow_2_1 9 rfl rfl)
theorem dJ5_grow_2_36 : decode cJ5_grow_2 36 = .ok (.iload_n 3, 1) := dk_29 (dk_at dksJ5_grow_2_1 12 rfl rfl)
theorem dJ5_grow_2_37 : decode cJ5_grow_2 37 = .ok (.invokestatic 66, 3) := dk_184 0 66 (dk_at dksJ5_grow_2_1 13 rfl rfl)
theorem dJ5_grow_2_40 : decode cJ5_grow_2 40 = .ok (.dup_x1, 1) := dk_90 (dk_at dksJ5_grow_2_1 16 rfl rfl)
theorem dJ5_grow_2_41 : decode cJ5_grow_2 41 = .ok (.putfield 9, 3) := dk_181 0 9 (dk_at dksJ5_grow_2_1 17 rfl rfl)
theorem dJ5_grow_2_44 : decode cJ5_grow_2 44 = .ok (.areturn, 1) := dk_176 (dk_at dksJ5_grow_2_1 20 rfl rfl)
theorem dJ5_grow_2_45 : decode cJ5_grow_2 45 = .ok (.aload_n 0, 1) := dk_42 (dk_at dksJ5_grow_2_1 21 rfl rfl)
theorem dJ5_grow_2_46 : decode cJ5_grow_2 46 = .ok (.bipush 10, 2) := dk_16 10 (dk_at dksJ5_grow_2_1 22 rfl rfl)
theorem dJ5_grow_2_48 : decode cJ5_grow_2 48 = .ok (.iload_n 1, 1) := dk_27 (dk_at dksJ5_grow_2_2 0 rfl rfl)
theorem dJ5_grow_2_49 : decode cJ5_grow_2 49 = .ok (.invokestatic 79, 3) := dk_184 0 79 (dk_at dksJ5_grow_2_2 1 rfl rfl)
theorem dJ5_grow_2_52 : decode cJ5_grow_2 52 = .ok (.anewarray 7, 3) := dk_189 0 7 (dk_at dksJ5_grow_2_2 4 rfl rfl)
theorem dJ5_grow_2_55 : decode cJ5_grow_2 55 = .ok (.dup_x1, 1) := dk_90 (dk_at dksJ5_grow_2_2 7 rfl rfl)
theorem dJ5_grow_2_56 : decode cJ5_grow_2 56 = .ok (.putfield 9, 3) := dk_181 0 9 (dk_at dksJ5_grow_2_2 8 rfl rfl)
theorem dJ5_grow_2_59 : decode cJ5_grow_2 59 = .ok (.areturn, 1) := dk_176 (dk_at dksJ5_grow_2_2 11 rfl rfl)
abbrev cJ5_size : ByteArray := prog_49_method_8_code
def yJ5_size : MethodName := ⟨RJ5, "size", "()I"⟩
theorem dJ5_size_0 : decode cJ5_size 0 = .ok (.aload_n 0, 1) := by decide +kernel
theorem dJ5_size_1 : decode cJ5_size 1 = .ok (.getfield 48, 3) := by decide +kernel
theorem dJ5_size_4 : decode cJ5_size 4 = .ok (.ireturn, 1) := by decide +kernel
abbrev cJ5_get : ByteArray := prog_49_method_20_code
def yJ5_get : MethodName := ⟨RJ5, "get", "(I)Ljava/lang/Object;"⟩
def dkwJ5_get_0 : List UInt8 := [27, 42, 180, 0, 48, 184, 0, 118, 87, 42, 27, 182, 0, 123, 176]
abbrev dktJ5_get_0 : List UInt8 := dkwJ5_get_0 ++ []
theorem dksJ5_get_0 : cJ5_get.data.toList.drop 0 = dktJ5_get_0 := by decide +kernel
theorem dJ5_get_0 : decode cJ5_get 0 = .ok (.iload_n 1, 1) := dk_27 (dk_at dksJ5_get_0 0 rfl rfl)
theorem dJ5_get_1 : decode cJ5_get 1 = .ok (.aload_n 0, 1) := dk_42 (dk_at dksJ5_get_0 1 rfl rfl)
theorem dJ5_get_2 : decode cJ5_get 2 = .ok (.getfield 48, 3) := dk_180 0 48 (dk_at dksJ5_get_0 2 rfl rfl)
theorem dJ5_get_5 : decode cJ5_get 5 = .ok (.invokestatic 118, 3) := dk_184 0 118 (dk_at dksJ5_get_0 5 rfl rfl)
theorem dJ5_get_8 : decode cJ5_get 8 = .ok (.pop, 1) := dk_87 (dk_at dksJ5_get_0 8 rfl rfl)
theorem dJ5_get_9 : decode cJ5_get 9 = .ok (.aload_n 0, 1) := dk_42 (dk_at dksJ5_get_0 9 rfl rfl)
theorem dJ5_get_10 : decode cJ5_get 10 = .ok (.iload_n 1, 1) := dk_27 (dk_at dksJ5_get_0 10 rfl rfl)
theorem dJ5_get_11 : decode cJ5_get 11 = .ok (.invokevirtual 123, 3) := dk_182 0 123 (dk_at dksJ5_get_0 11 rfl rfl)
theorem dJ5_get_14 : decode cJ5_get 14 = .ok (.areturn, 1) := dk_176 (dk_at dksJ5_get_0 14 rfl rfl)
abbrev cJ5_elementData : ByteArray := prog_49_method_18_code
def yJ5_elementData : MethodName := ⟨RJ5, "elementData", "(I)Ljava/lang/Object;"⟩
def dkwJ5_elementData_0 : List UInt8 := [42, 180, 0, 9, 27, 50, 176]
abbrev dktJ5_elementData_0 : List UInt8 := dkwJ5_elementData_0 ++ []
theorem dksJ5_elementData_0 : cJ5_elementData.data.toList.drop 0 = dktJ5_elementData_0 := by decide +kernel
theorem dJ5_elementData_0 : decode cJ5_elementData 0 = .ok (.aload_n 0, 1) := dk_42 (dk_at dksJ5_elementData_0 0 rfl rfl)
theorem dJ5_elementData_1 : decode cJ5_elementData 1 = .ok (.getfield 9, 3) := dk_180 0 9 (dk_at dksJ5_elementData_0 1 rfl rfl)
theorem dJ5_elementData_4 : decode cJ5_elementData 4 = .ok (.iload_n 1, 1) := dk_27 (dk_at dksJ5_elementData_0 4 rfl rfl)
theorem dJ5_elementData_5 : decode cJ5_elementData 5 = .ok (.aaload, 1) := dk_50 (dk_at dksJ5_elementData_0 5 rfl rfl)
theorem dJ5_elementData_6 : decode cJ5_elementData 6 = .ok (.areturn, 1) := dk_176 (dk_at dksJ5_elementData_0 6 rfl rfl)
abbrev cJ5_isEmpty : ByteArray := prog_49_method_9_code
def yJ5_isEmpty : MethodName := ⟨RJ5, "isEmpty", "()Z"⟩
def dkwJ5_isEmpty_0 : List UInt8 := [42, 180, 0, 48, 154, 0, 7, 4, 167, 0, 4, 3, 172]
abbrev dktJ5_isEmpty_0 : List UInt8 := dkwJ5_isEmpty_0 ++ []
theorem dksJ5_isEmpty_0 : cJ5_isEmpty.data.toList.drop 0 = dktJ5_isEmpty_0 := by decide +kernel
theorem dJ5_isEmpty_0 : decode cJ5_isEmpty 0 = .ok (.aload_n 0, 1) := dk_42 (dk_at dksJ5_isEmpty_0 0 rfl rfl)
theorem dJ5_isEmpty_1 : decode cJ5_isEmpty 1 = .ok (.getfield 48, 3) := dk_180 0 48 (dk_at dksJ5_isEmpty_0 1 rfl rfl)
theorem dJ5_isEmpty_4 : decode cJ5_isEmpty 4 = .ok (.ifCond .ne 7, 3) := dk_154 0 7 (dk_at dksJ5_isEmpty_0 4 rfl rfl)
theorem dJ5_isEmpty_7 : decode cJ5_isEmpty 7 = .ok (.iconst 1, 1) := dk_4 (dk_at dksJ5_isEmpty_0 7 rfl rfl)
theorem dJ5_isEmpty_8 : decode cJ5_isEmpty 8 = .ok (.goto 4, 3) := dk_167 0 4 (dk_at dksJ5_isEmpty_0 8 rfl rfl)
theorem dJ5_isEmpty_11 : decode cJ5_isEmpty 11 = .ok (.iconst 0, 1) := dk_3 (dk_at dksJ5_isEmpty_0 11 rfl rfl)
theorem dJ5_isEmpty_12 : decode cJ5_isEmpty 12 = .ok (.ireturn, 1) := dk_172 (dk_at dksJ5_isEmpty_0 12 rfl rfl)
def RJ4 : String := "java/util/AbstractList"
abbrev cJ4_init : ByteArray := prog_46_method_1_code
def yJ4_init : MethodName := ⟨RJ4, "<init>", "()V"⟩
def dkwJ4_init_0 : List UInt8 := [42, 183, 0, 1, 42, 3, 181, 0, 7, 177]
abbrev dktJ4_init_0 : List UInt8 := dkwJ4_init_0 ++ []
theorem dksJ4_init_0 : cJ4_init.data.toList.drop 0 = dktJ4_init_0 := by decide +kernel
theorem dJ4_init_0 : decode cJ4_init 0 = .ok (.aload_n 0, 1) := dk_42 (dk_at dksJ4_init_0 0 rfl rfl)
theorem dJ4_init_1 : decode cJ4_init 1 = .ok (.invokespecial 1, 3) := dk_183 0 1 (dk_at dksJ4_init_0 1 rfl rfl)
theorem dJ4_init_4 : decode cJ4_init 4 = .ok (.aload_n 0, 1) := dk_42 (dk_at dksJ4_init_0 4 rfl rfl)
theorem dJ4_init_5 : decode cJ4_init 5 = .ok (.iconst 0, 1) := dk_3 (dk_at dksJ4_init_0 5 rfl rfl)
theorem dJ4_init_6 : decode cJ4_init 6 = .ok (.putfield 7, 3) := dk_181 0 7 (dk_at dksJ4_init_0 6 rfl rfl)
theorem dJ4_init_9 : decode cJ4_init 9 = .ok (.return_, 1) := dk_177 (dk_at dksJ4_init_0 9 rfl rfl)
def RJ0 : String := "java/util/AbstractCollection"
abbrev cJ0_init : ByteArray := prog_45_method_1_code
def yJ0_init : MethodName := ⟨RJ0, "<init>", "()V"⟩
theorem dJ0_init_0 : decode cJ0_init 0 = .ok (.aload_n 0, 1) := by decide +kernel
theorem dJ0_init_1 : decode cJ0_init 1 = .ok (.invokespecial 1, 3) := by decide +kernel
theorem dJ0_init_4 : decode cJ0_init 4 = .ok (.return_, 1) := by decide +kernel
def RJ29 : String := "java/util/Objects"
abbrev cJ29_checkIndex : ByteArray := prog_60_method_17_code
def yJ29_checkIndex : MethodName := ⟨RJ29, "checkIndex", "(II)I"⟩
def dkwJ29_checkIndex_0 : List UInt8 := [26, 27, 1, 184, 0, 105, 172]
abbrev dktJ29_checkIndex_0 : List UInt8 := dkwJ29_checkIndex_0 ++ []
theorem dksJ29_checkIndex_0 : cJ29_checkIndex.data.toList.drop 0 = dktJ29_checkIndex_0 := by decide +kernel
theorem dJ29_checkIndex_0 : decode cJ29_checkIndex 0 = .ok (.iload_n 0, 1) := dk_26 (dk_at dksJ29_checkIndex_0 0 rfl rfl)
theorem dJ29_checkIndex_1 : decode cJ29_checkIndex 1 = .ok (.iload_n 1, 1) := dk_27 (dk_at dksJ29_checkIndex_0 1 rfl rfl)
theorem dJ29_checkIndex_2 : decode cJ29_checkIndex 2 = .ok (.aconst_null, 1) := dk_1 (dk_at dksJ29_checkIndex_0 2 rfl rfl)
theorem dJ29_checkIndex_3 : decode cJ29_checkIndex 3 = .ok (.invokestatic 105, 3) := dk_184 0 105 (dk_at dksJ29_checkIndex_0 3 rfl rfl)
theorem dJ29_checkIndex_6 : decode cJ29_checkIndex 6 = .ok (.ireturn, 1) := dk_172 (dk_at dksJ29_checkIndex_0 6 rfl rfl)
def RJ17 : String := "jdk/internal/util/Preconditions"
abbrev cJ17_checkIndex : ByteArray := prog_68_method_11_code
def yJ17_checkIndex : MethodName := ⟨RJ17, "checkIndex", "(IILjava/util/function/BiFunction;)I"⟩
def dkwJ17_checkIndex_0 : List UInt8 := [26, 155, 0, 8, 26, 27, 161, 0, 10, 44, 26, 27, 184, 0, 95, 191, 26, 172]
abbrev dktJ17_checkIndex_0 : List UInt8 := dkwJ17_checkIndex_0 ++ []
theorem dksJ17_checkIndex_0 : cJ17_checkIndex.data.toList.drop 0 = dktJ17_checkIndex_0 := by decide +kernel
theorem dJ17_checkIndex_0 : decode cJ17_checkIndex 0 = .ok (.iload_n 0, 1) := dk_26 (dk_at dksJ17_checkIndex_0 0 rfl rfl)
theorem dJ17_checkIndex_1 : decode cJ17_checkIndex 1 = .ok (.ifCond .lt 8, 3) := dk_155 0 8 (dk_at dksJ17_checkIndex_0 1 rfl rfl)
theorem dJ17_checkIndex_4 : decode cJ17_checkIndex 4 = .ok (.iload_n 0, 1) := dk_26 (dk_at dksJ17_checkIndex_0 4 rfl rfl)
theorem dJ17_checkIndex_5 : decode cJ17_checkIndex 5 = .ok (.iload_n 1, 1) := dk_27 (dk_at dksJ17_checkIndex_0 5 rfl rfl)
theorem dJ17_checkIndex_6 : decode cJ17_checkIndex 6 = .ok (.if_icmp .lt 10, 3) := dk_161 0 10 (dk_at dksJ17_checkIndex_0 6 rfl rfl)
theorem dJ17_checkIndex_9 : decode cJ17_checkIndex 9 = .ok (.aload_n 2, 1) := dk_44 (dk_at dksJ17_checkIndex_0 9 rfl rfl)
theorem dJ17_checkIndex_10 : decode cJ17_checkIndex 10 = .ok (.iload_n 0, 1) := dk_26 (dk_at dksJ17_checkIndex_0 10 rfl rfl)
theorem dJ17_checkIndex_11 : decode cJ17_checkIndex 11 = .ok (.iload_n 1, 1) := dk_27 (dk_at dksJ17_checkIndex_0 11 rfl rfl)
theorem dJ17_checkIndex_12 : decode cJ17_checkIndex 12 = .ok (.invokestatic 95, 3) := dk_184 0 95 (dk_at dksJ17_checkIndex_0 12 rfl rfl)
theorem dJ17_checkIndex_15 : decode cJ17_checkIndex 15 = .ok (.athrow, 1) := dk_191 (dk_at dksJ17_checkIndex_0 15 rfl rfl)
theorem dJ17_checkIndex_16 : decode cJ17_checkIndex 16 = .ok (.iload_n 0, 1) := dk_26 (dk_at dksJ17_checkIndex_0 16 rfl rfl)
theorem dJ17_checkIndex_17 : decode cJ17_checkIndex 17 = .ok (.ireturn, 1) := dk_172 (dk_at dksJ17_checkIndex_0 17 rfl rfl)
def RJ16 : String := "java/util/Arrays"
abbrev cJ16_copyOf : ByteArray := prog_50_method_121_code
def yJ16_copyOf : MethodName := ⟨RJ16, "copyOf", "([BI)[B"⟩
def dkwJ16_copyOf_1 : List UInt8 := [27, 184, 1, 48, 184, 0, 150, 44, 176]
abbrev dktJ16_copyOf_1 : List UInt8 := dkwJ16_copyOf_1 ++ []
def dkwJ16_copyOf_0 : List UInt8 := [27, 42, 190, 160, 0, 11, 42, 182, 1, 54, 192, 1, 55, 176, 27, 188, 8, 77, 42, 3, 44, 3, 42, 190]
abbrev dktJ16_copyOf_0 : List UInt8 := dkwJ16_copyOf_0 ++ dktJ16_copyOf_1
theorem dksJ16_copyOf_0 : cJ16_copyOf.data.toList.drop 0 = dktJ16_copyOf_0 := by decide +kernel
theorem dksJ16_copyOf_1 : cJ16_copyOf.data.toList.drop 24 = dktJ16_copyOf_1 := dk_seg dksJ16_copyOf_0 24 rfl rfl
theorem dJ16_copyOf_0 : decode cJ16_copyOf 0 = .ok (.iload_n 1, 1) := dk_27 (dk_at dksJ16_copyOf_0 0 rfl rfl)
theorem dJ16_copyOf_1 : decode cJ16_copyOf 1 = .ok (.aload_n 0, 1) := dk_42 (dk_at dksJ16_copyOf_0 1 rfl rfl)
theorem dJ16_copyOf_2 : decode cJ16_copyOf 2 = .ok (.arraylength, 1) := dk_190 (dk_at dksJ16_copyOf_0 2 rfl rfl)
theorem dJ16_copyOf_3 : decode cJ16_copyOf 3 = .ok (.if_icmp .ne 11, 3) := dk_160 0 11 (dk_at dksJ16_copyOf_0 3 rfl rfl)
theorem dJ16_copyOf_6 : decode cJ16_copyOf 6 = .ok (.aload_n 0, 1) := dk_42 (dk_at dksJ16_copyOf_0 6 rfl rfl)
theorem dJ16_copyOf_7 : decode cJ16_copyOf 7 = .ok (.invokevirtual 310, 3) := dk_182 1 54 (dk_at dksJ16_copyOf_0 7 rfl rfl)
theorem dJ16_copyOf_10 : decode cJ16_copyOf 10 = .ok (.checkcast 311, 3) := dk_192 1 55 (dk_at dksJ16_copyOf_0 10 rfl rfl)
theorem dJ16_copyOf_13 : decode cJ16_copyOf 13 = .ok (.areturn, 1) := dk_176 (dk_at dksJ16_copyOf_0 13 rfl rfl)
theorem dJ16_copyOf_14 : decode cJ16_copyOf 14 = .ok (.iload_n 1, 1) := dk_27 (dk_at dksJ16_copyOf_0 14 rfl rfl)
theorem dJ16_copyOf_15 : decode cJ16_copyOf 15 = .ok (.newarray .byte, 2) := dk_188_8 (dk_at dksJ16_copyOf_0 15 rfl rfl)
theorem dJ16_copyOf_17 : decode cJ16_copyOf 17 = .ok (.astore_n 2, 1) := dk_77 (dk_at dksJ16_copyOf_0 17 rfl rfl)
theorem dJ16_copyOf_18 : decode cJ16_copyOf 18 = .ok (.aload_n 0, 1) := dk_42 (dk_at dksJ16_copyOf_0 18 rfl rfl)
theorem dJ16_copyOf_19 : decode cJ16_copyOf 19 = .ok (.iconst 0, 1) := dk_3 (dk_at dksJ16_copyOf_0 19 rfl rfl)
theorem dJ16_copyOf_20 : decode cJ16_copyOf 20 = .ok (.aload_n 2, 1) := dk_44 (dk_at dksJ16_copyOf_0 20 rfl rfl)
theorem dJ16_copyOf_21 : decode cJ16_copyOf 21 = .ok (.iconst 0, 1) := dk_3 (dk_at dksJ16_copyOf_0 21 rfl rfl)
theorem dJ16_copyOf_22 : decode cJ16_copyOf 22 = .ok (.aload_n 0, 1) := dk_42 (dk_at dksJ16_copyOf_0 22 rfl rfl)
theorem dJ16_copyOf_23 : decode cJ16_copyOf 23 = .ok (.arraylength, 1) := dk_190 (dk_at dksJ16_copyOf_0 23 rfl rfl)
theorem dJ16_copyOf_24 : decode cJ16_copyOf 24 = .ok (.iload_n 1, 1) := dk_27 (dk_at dksJ16_copyOf_1 0 rfl rfl)
theorem dJ16_copyOf_25 : decode cJ16_copyOf 25 = .ok (.invokestatic 304, 3) := dk_184 1 48 (dk_at dksJ16_copyOf_1 1 rfl rfl)
theorem dJ16_copyOf_28 : decode cJ16_copyOf 28 = .ok (.invokestatic 150, 3) := dk_184 0 150 (dk_at dksJ16_copyOf_1 4 rfl rfl)
theorem dJ16_copyOf_31 : decode cJ16_copyOf 31 = .ok (.aload_n 2, 1) := dk_44 (dk_at dksJ16_copyOf_1 7 rfl rfl)
theorem dJ16_copyOf_32 : decode cJ16_copyOf 32 = .ok (.areturn, 1) := dk_176 (dk_at dksJ16_copyOf_1 8 rfl rfl)
abbrev cJ16_copyOfRange : ByteArray := prog_50_method_132_code
def yJ16_copyOfRange : MethodName := ⟨RJ16, "copyOfRange", "([BII)[B"⟩
def dkwJ16_copyOfRange_1 : List UInt8 := [176]
abbrev dktJ16_copyOfRange_1 : List UInt8 := dkwJ16_copyOfRange_1 ++ []
def dkwJ16_copyOfRange_0 : List UInt8 := [27, 154, 0, 9, 28, 42, 190, 159, 0, 10, 42, 27, 28, 184, 1, 83, 176, 42, 182, 1, 54, 192, 1, 55]
abbrev dktJ16_copyOfRange_0 : List UInt8 := dkwJ16_copyOfRange_0 ++ dktJ16_copyOfRange_1
theorem dksJ16_copyOfRange_0 : cJ16_copyOfRange.data.toList.drop 0 = dktJ16_copyOfRange_0 := by decide +kernel
theorem dksJ16_copyOfRange_1 : cJ16_copyOfRange.data.toList.drop 24 = dktJ16_copyOfRange_1 := dk_seg dksJ16_copyOfRange_0 24 rfl rfl
theorem dJ16_copyOfRange_0 : decode cJ16_copyOfRange 0 = .ok (.iload_n 1, 1) := dk_27 (dk_at dksJ16_copyOfRange_0 0 rfl rfl)
theorem dJ16_copyOfRange_1 : decode cJ16_copyOfRange 1 = .ok (.ifCond .ne 9, 3) := dk_154 0 9 (dk_at dksJ16_copyOfRange_0 1 rfl rfl)
theorem dJ16_copyOfRange_4 : decode cJ16_copyOfRange 4 = .ok (.iload_n 2, 1) := dk_28 (dk_at dksJ16_copyOfRange_0 4 rfl rfl)
theorem dJ16_copyOfRange_5 : decode cJ16_copyOfRange 5 = .ok (.aload_n 0, 1) := dk_42 (dk_at dksJ16_copyOfRange_0 5 rfl rfl)
theorem dJ16_copyOfRange_6 : decode cJ16_copyOfRange 6 = .ok (.arraylength, 1) := dk_190 (dk_at dksJ16_copyOfRange_0 6 rfl rfl)
theorem dJ16_copyOfRange_7 : decode cJ16_copyOfRange 7 = .ok (.if_icmp .eq 10, 3) := dk_159 0 10 (dk_at dksJ16_copyOfRange_0 7 rfl rfl)
theorem dJ16_copyOfRange_10 : decode cJ16_copyOfRange 10 = .ok (.aload_n 0, 1) := dk_42 (dk_at dksJ16_copyOfRange_0 10 rfl rfl)
theorem dJ16_copyOfRange_11 : decode cJ16_copyOfRange 11 = .ok (.iload_n 1, 1) := dk_27 (dk_at dksJ16_copyOfRange_0 11 rfl rfl)
theorem dJ16_copyOfRange_12 : decode cJ16_copyOfRange 12 = .ok (.iload_n 2, 1) := dk_28 (dk_at dksJ16_copyOfRange_0 12 rfl rfl)
theorem dJ16_copyOfRange_13 : decode cJ16_copyOfRange 13 = .ok (.invokestatic 339, 3) := dk_184 1 83 (dk_at dksJ16_copyOfRange_0 13 rfl rfl)
theorem dJ16_copyOfRange_16 : decode cJ16_copyOfRange 16 = .ok (.areturn, 1) := dk_176 (dk_at dksJ16_copyOfRange_0 16 rfl rfl)
theorem dJ16_copyOfRange_17 : decode cJ16_copyOfRange 17 = .ok (.aload_n 0, 1) := dk_42 (dk_at dksJ16_copyOfRange_0 17 rfl rfl)
theorem dJ16_copyOfRange_18 : decode cJ16_copyOfRange 18 = .ok (.invokevirtual 310, 3) := dk_182 1 54 (dk_at dksJ16_copyOfRange_0 18 rfl rfl)
theorem dJ16_copyOfRange_21 : decode cJ16_copyOfRange 21 = .ok (.checkcast 311, 3) := dk_192 1 55 (dk_at dksJ16_copyOfRange_0 21 rfl rfl)
theorem dJ16_copyOfRange_24 : decode cJ16_copyOfRange 24 = .ok (.areturn, 1) := dk_176 (dk_at dksJ16_copyOfRange_1 0 rfl rfl)
abbrev cJ16_copyOfRangeByte : ByteArray := prog_50_method_133_code
def yJ16_copyOfRangeByte : MethodName := ⟨RJ16, "copyOfRangeByte", "([BII)[B"⟩
def dkwJ16_copyOfRangeByte_1 : List UInt8 := [184, 1, 48, 184, 0, 150, 25, 4, 176]
abbrev dktJ16_copyOfRangeByte_1 : List UInt8 := dkwJ16_copyOfRangeByte_1 ++ []
def dkwJ16_copyOfRangeByte_0 : List UInt8 := [27, 28, 184, 1, 87, 28, 27, 100, 62, 29, 188, 8, 58, 4, 42, 27, 25, 4, 3, 42, 190, 27, 100, 29]
abbrev dktJ16_copyOfRangeByte_0 : List UInt8 := dkwJ16_copyOfRangeByte_0 ++ dktJ16_copyOfRangeByte_1
theorem dksJ16_copyOfRangeByte_0 : cJ16_copyOfRangeByte.data.toList.drop 0 = dktJ16_copyOfRangeByte_0 := by decide +kernel
theorem dksJ16_copyOfRangeByte_1 : cJ16_copyOfRangeByte.data.toList.drop 24 = dktJ16_copyOfRangeByte_1 := dk_seg dksJ16_copyOfRangeByte_0 24 rfl rfl
theorem dJ16_copyOfRangeByte_0 : decode cJ16_copyOfRangeByte 0 = .ok (.iload_n 1, 1) := dk_27 (dk_at dksJ16_copyOfRangeByte_0 0 rfl rfl)
theorem dJ16_copyOfRangeByte_1 : decode cJ16_copyOfRangeByte 1 = .ok (.iload_n 2, 1) := dk_28 (dk_at dksJ16_copyOfRangeByte_0 1 rfl rfl)
theorem dJ16_copyOfRangeByte_2 : decode cJ16_copyOfRangeByte 2 = .ok (.invokestatic 343, 3) := dk_184 1 87 (dk_at dksJ16_copyOfRangeByte_0 2 rfl rfl)
theorem dJ16_copyOfRangeByte_5 : decode cJ16_copyOfRangeByte 5 = .ok (.iload_n 2, 1) := dk_28 (dk_at dksJ16_copyOfRangeByte_0 5 rfl rfl)
theorem dJ16_copyOfRangeByte_6 : decode cJ16_copyOfRangeByte 6 = .ok (.iload_n 1, 1) := dk_27 (dk_at dksJ16_copyOfRangeByte_0 6 rfl rfl)
theorem dJ16_copyOfRangeByte_7 : decode cJ16_copyOfRangeByte 7 = .ok (.isub, 1) := dk_100 (dk_at dksJ16_copyOfRangeByte_0 7 rfl rfl)
theorem dJ16_copyOfRangeByte_8 : decode cJ16_copyOfRangeByte 8 = .ok (.istore_n 3, 1) := dk_62 (dk_at dksJ16_copyOfRangeByte_0 8 rfl rfl)
theorem dJ16_copyOfRangeByte_9 : decode cJ16_copyOfRangeByte 9 = .ok (.iload_n 3, 1) := dk_29 (dk_at dksJ16_copyOfRangeByte_0 9 rfl rfl)
theorem dJ16_copyOfRangeByte_10 : decode cJ16_copyOfRangeByte 10 = .ok (.newarray .byte, 2) := dk_188_8 (dk_at dksJ16_copyOfRangeByte_0 10 rfl rfl)
theorem dJ16_copyOfRangeByte_12 : decode cJ16_copyOfRangeByte 12 = .ok (.astore 4, 2) := dk_58 4 (dk_at dksJ16_copyOfRangeByte_0 12 rfl rfl)
theorem dJ16_copyOfRangeByte_14 : decode cJ16_copyOfRangeByte 14 = .ok (.aload_n 0, 1) := dk_42 (dk_at dksJ16_copyOfRangeByte_0 14 rfl rfl)
theorem dJ16_copyOfRangeByte_15 : decode cJ16_copyOfRangeByte 15 = .ok (.iload_n 1, 1) := dk_27 (dk_at dksJ16_copyOfRangeByte_0 15 rfl rfl)
theorem dJ16_copyOfRangeByte_16 : decode cJ16_copyOfRangeByte 16 = .ok (.aload 4, 2) := dk_25 4 (dk_at dksJ16_copyOfRangeByte_0 16 rfl rfl)
theorem dJ16_copyOfRangeByte_18 : decode cJ16_copyOfRangeByte 18 = .ok (.iconst 0, 1) := dk_3 (dk_at dksJ16_copyOfRangeByte_0 18 rfl rfl)
theorem dJ16_copyOfRangeByte_19 : decode cJ16_copyOfRangeByte 19 = .ok (.aload_n 0, 1) := dk_42 (dk_at dksJ16_copyOfRangeByte_0 19 rfl rfl)
theorem dJ16_copyOfRangeByte_20 : decode cJ16_copyOfRangeByte 20 = .ok (.arraylength, 1) := dk_190 (dk_at dksJ16_copyOfRangeByte_0 20 rfl rfl)
theorem dJ16_copyOfRangeByte_21 : decode cJ16_copyOfRangeByte 21 = .ok (.iload_n 1, 1) := dk_27 (dk_at dksJ16_copyOfRangeByte_0 21 rfl rfl)
theorem dJ16_copyOfRangeByte_22 : decode cJ16_copyOfRangeByte 22 = .ok (.isub, 1) := dk_100 (dk_at dksJ16_copyOfRangeByte_0 22 rfl rfl)
theorem dJ16_copyOfRangeByte_23 : decode cJ16_copyOfRangeByte 23 = .ok (.iload_n 3, 1) := dk_29 (dk_at dksJ16_copyOfRangeByte_0 23 rfl rfl)
theorem dJ16_copyOfRangeByte_24 : decode cJ16_copyOfRangeByte 24 = .ok (.invokestatic 304, 3) := dk_184 1 48 (dk_at dksJ16_copyOfRangeByte_1 0 rfl rfl)
theorem dJ16_copyOfRangeByte_27 : decode cJ16_copyOfRangeByte 27 = .ok (.invokestatic 150, 3) := dk_184 0 150 (dk_at dksJ16_copyOfRangeByte_1 3 rfl rfl)
theorem dJ16_copyOfRangeByte_30 : decode cJ16_copyOfRangeByte 30 = .ok (.aload 4, 2) := dk_25 4 (dk_at dksJ16_copyOfRangeByte_1 6 rfl rfl)
theorem dJ16_copyOfRangeByte_32 : decode cJ16_copyOfRangeByte 32 = .ok (.areturn, 1) := dk_176 (dk_at dksJ16_copyOfRangeByte_1 8 rfl rfl)
abbrev cJ16_checkLength : ByteArray := prog_50_method_131_code
def yJ16_checkLength : MethodName := ⟨RJ16, "checkLength", "(II)V"⟩
def dkwJ16_checkLength_1 : List UInt8 := [182, 0, 50, 27, 182, 0, 54, 182, 0, 61, 183, 0, 65, 191, 177]
abbrev dktJ16_checkLength_1 : List UInt8 := dkwJ16_checkLength_1 ++ []
def dkwJ16_checkLength_0 : List UInt8 := [27, 26, 162, 0, 35, 187, 0, 43, 89, 187, 0, 45, 89, 183, 0, 47, 26, 182, 0, 54, 19, 1, 81]
abbrev dktJ16_checkLength_0 : List UInt8 := dkwJ16_checkLength_0 ++ dktJ16_checkLength_1
theorem dksJ16_checkLength_0 : cJ16_checkLength.data.toList.drop 0 = dktJ16_checkLength_0 := by decide +kernel
theorem dksJ16_checkLength_1 : cJ16_checkLength.data.toList.drop 23 = dktJ16_checkLength_1 := dk_seg dksJ16_checkLength_0 23 rfl rfl
theorem dJ16_checkLength_0 : decode cJ16_checkLength 0 = .ok (.iload_n 1, 1) := dk_27 (dk_at dksJ16_checkLength_0 0 rfl rfl)
theorem dJ16_checkLength_1 : decode cJ16_checkLength 1 = .ok (.iload_n 0, 1) := dk_26 (dk_at dksJ16_checkLength_0 1 rfl rfl)
theorem dJ16_checkLength_2 : decode cJ16_checkLength 2 = .ok (.if_icmp .ge 35, 3) := dk_162 0 35 (dk_at dksJ16_checkLength_0 2 rfl rfl)
theorem dJ16_checkLength_5 : decode cJ16_checkLength 5 = .ok (.new 43, 3) := dk_187 0 43 (dk_at dksJ16_checkLength_0 5 rfl rfl)
theorem dJ16_checkLength_8 : decode cJ16_checkLength 8 = .ok (.dup, 1) := dk_89 (dk_at dksJ16_checkLength_0 8 rfl rfl)
theorem dJ16_checkLength_9 : decode cJ16_checkLength 9 = .ok (.new 45, 3) := dk_187 0 45 (dk_at dksJ16_checkLength_0 9 rfl rfl)
theorem dJ16_checkLength_12 : decode cJ16_checkLength 12 = .ok (.dup, 1) := dk_89 (dk_at dksJ16_checkLength_0 12 rfl rfl)
theorem dJ16_checkLength_13 : decode cJ16_checkLength 13 = .ok (.invokespecial 47, 3) := dk_183 0 47 (dk_at dksJ16_checkLength_0 13 rfl rfl)
theorem dJ16_checkLength_16 : decode cJ16_checkLength 16 = .ok (.iload_n 0, 1) := dk_26 (dk_at dksJ16_checkLength_0 16 rfl rfl)
theorem dJ16_checkLength_17 : decode cJ16_checkLength 17 = .ok (.invokevirtual 54, 3) := dk_182 0 54 (dk_at dksJ16_checkLength_0 17 rfl rfl)
theorem dJ16_checkLength_20 : decode cJ16_checkLength 20 = .ok (.ldc_w 337, 3) := dk_19 1 81 (dk_at dksJ16_checkLength_0 20 rfl rfl)
theorem dJ16_checkLength_23 : decode cJ16_checkLength 23 = .ok (.invokevirtual 50, 3) := dk_182 0 50 (dk_at dksJ16_checkLength_1 0 rfl rfl)
theorem dJ16_checkLength_26 : decode cJ16_checkLength 26 = .ok (.iload_n 1, 1) := dk_27 (dk_at dksJ16_checkLength_1 3 rfl rfl)
theorem dJ16_checkLength_27 : decode cJ16_checkLength 27 = .ok (.invokevirtual 54, 3) := dk_182 0 54 (dk_at dksJ16_checkLength_1 4 rfl rfl)
theorem dJ16_checkLength_30 : decode cJ16_checkLength 30 = .ok (.invokevirtual 61, 3) := dk_182 0 61 (dk_at dksJ16_checkLength_1 7 rfl rfl)
theorem dJ16_checkLength_33 : decode cJ16_checkLength 33 = .ok (.invokespecial 65, 3) := dk_183 0 65 (dk_at dksJ16_checkLength_1 10 rfl rfl)
theorem dJ16_checkLength_36 : decode cJ16_checkLength 36 = .ok (.athrow, 1) := dk_191 (dk_at dksJ16_checkLength_1 13 rfl rfl)
theorem dJ16_checkLength_37 : decode cJ16_checkLength 37 = .ok (.return_, 1) := dk_177 (dk_at dksJ16_checkLength_1 14 rfl rfl)
abbrev cJ16_copyOf_2 : ByteArray := prog_50_method_119_code
def yJ16_copyOf_2 : MethodName := ⟨RJ16, "copyOf", "([Ljava/lang/Object;I)[Ljava/lang/Object;"⟩
def dkwJ16_copyOf_2_0 : List UInt8 := [42, 27, 42, 182, 0, 86, 184, 1, 44, 176]
abbrev dktJ16_copyOf_2_0 : List UInt8 := dkwJ16_copyOf_2_0 ++ []
theorem dksJ16_copyOf_2_0 : cJ16_copyOf_2.data.toList.drop 0 = dktJ16_copyOf_2_0 := by decide +kernel
theorem dJ16_copyOf_2_0 : decode cJ16_copyOf_2 0 = .ok (.aload_n 0, 1) := dk_42 (dk_at dksJ16_copyOf_2_0 0 rfl rfl)
theorem dJ16_copyOf_2_1 : decode cJ16_copyOf_2 1 = .ok (.iload_n 1, 1) := dk_27 (dk_at dksJ16_copyOf_2_0 1 rfl rfl)
theorem dJ16_copyOf_2_2 : decode cJ16_copyOf_2 2 = .ok (.aload_n 0, 1) := dk_42 (dk_at dksJ16_copyOf_2_0 2 rfl rfl)
theorem dJ16_copyOf_2_3 : decode cJ16_copyOf_2 3 = .ok (.invokevirtual 86, 3) := dk_182 0 86 (dk_at dksJ16_copyOf_2_0 3 rfl rfl)
theorem dJ16_copyOf_2_6 : decode cJ16_copyOf_2 6 = .ok (.invokestatic 300, 3) := dk_184 1 44 (dk_at dksJ16_copyOf_2_0 6 rfl rfl)
theorem dJ16_copyOf_2_9 : decode cJ16_copyOf_2 9 = .ok (.areturn, 1) := dk_176 (dk_at dksJ16_copyOf_2_0 9 rfl rfl)
abbrev cJ16_copyOf_3 : ByteArray := prog_50_method_120_code
def yJ16_copyOf_3 : MethodName := ⟨RJ16, "copyOf", "([Ljava/lang/Object;ILjava/lang/Class;)[Ljava/lang/Object;"⟩
def dkwJ16_copyOf_3_1 : List UInt8 := [78, 42, 3, 45, 3, 42, 190, 27, 184, 1, 48, 184, 0, 150, 45, 176]
abbrev dktJ16_copyOf_3_1 : List UInt8 := dkwJ16_copyOf_3_1 ++ []
def dkwJ16_copyOf_3_0 : List UInt8 := [44, 18, 110, 166, 0, 10, 27, 189, 0, 2, 167, 0, 14, 44, 182, 0, 90, 27, 184, 0, 95, 192, 0, 110]
abbrev dktJ16_copyOf_3_0 : List UInt8 := dkwJ16_copyOf_3_0 ++ dktJ16_copyOf_3_1
theorem dksJ16_copyOf_3_0 : cJ16_copyOf_3.data.toList.drop 0 = dktJ16_copyOf_3_0 := by decide +kernel
theorem dksJ16_copyOf_3_1 : cJ16_copyOf_3.data.toList.drop 24 = dktJ16_copyOf_3_1 := dk_seg dksJ16_copyOf_3_0 24 rfl rfl
theorem dJ16_copyOf_3_0 : decode cJ16_copyOf_3 0 = .ok (.aload_n 2, 1) := dk_44 (dk_at dksJ16_copyOf_3_0 0 rfl rfl)
theorem dJ16_copyOf_3_1 : decode cJ16_copyOf_3 1 = .ok (.ldc 110, 2) := dk_18 110 (dk_at dksJ16_copyOf_3_0 1 rfl rfl)
theorem dJ16_copyOf_3_3 : decode cJ16_copyOf_3 3 = .ok (.if_acmp .ne 10, 3) := dk_166 0 10 (dk_at dksJ16_copyOf_3_0 3 rfl rfl)
theorem dJ16_copyOf_3_6 : decode cJ16_copyOf_3 6 = .ok (.iload_n 1, 1) := dk_27 (dk_at dksJ16_copyOf_3_0 6 rfl rfl)
theorem dJ16_copyOf_3_7 : decode cJ16_copyOf_3 7 = .ok (.anewarray 2, 3) := dk_189 0 2 (dk_at dksJ16_copyOf_3_0 7 rfl rfl)
theorem dJ16_copyOf_3_10 : decode cJ16_copyOf_3 10 = .ok (.goto 14, 3) := dk_167 0 14 (dk_at dksJ16_copyOf_3_0 10 rfl rfl)
theorem dJ16_copyOf_3_13 : decode cJ16_copyOf_3 13 = .ok (.aload_n 2, 1) := dk_44 (dk_at dksJ16_copyOf_3_0 13 rfl rfl)
theorem dJ16_copyOf_3_14 : decode cJ16_copyOf_3 14 = .ok (.invokevirtual 90, 3) := dk_182 0 90 (dk_at dksJ16_copyOf_3_0 14 rfl rfl)
theorem dJ16_copyOf_3_17 : decode cJ16_copyOf_3 17 = .ok (.iload_n 1, 1) := dk_27 (dk_at dksJ16_copyOf_3_0 17 rfl rfl)
theorem dJ16_copyOf_3_18 : decode cJ16_copyOf_3 18 = .ok (.invokestatic 95, 3) := dk_184 0 95 (dk_at dksJ16_copyOf_3_0 18 rfl rfl)
theorem dJ16_copyOf_3_21 : decode cJ16_copyOf_3 21 = .ok (.checkcast 110, 3) := dk_192 0 110 (dk_at dksJ16_copyOf_3_0 21 rfl rfl)
theorem dJ16_copyOf_3_24 : decode cJ16_copyOf_3 24 = .ok (.astore_n 3, 1) := dk_78 (dk_at dksJ16_copyOf_3_1 0 rfl rfl)
theorem dJ16_copyOf_3_25 : decode cJ16_copyOf_3 25 = .ok (.aload_n 0, 1) := dk_42 (dk_at dksJ16_copyOf_3_1 1 rfl rfl)
theorem dJ16_copyOf_3_26 : decode cJ16_copyOf_3 26 = .ok (.iconst 0, 1) := dk_3 (dk_at dksJ16_copyOf_3_1 2 rfl rfl)
theorem dJ16_copyOf_3_27 : decode cJ16_copyOf_3 27 = .ok (.aload_n 3, 1) := dk_45 (dk_at dksJ16_copyOf_3_1 3 rfl rfl)
theorem dJ16_copyOf_3_28 : decode cJ16_copyOf_3 28 = .ok (.iconst 0, 1) := dk_3 (dk_at dksJ16_copyOf_3_1 4 rfl rfl)
theorem dJ16_copyOf_3_29 : decode cJ16_copyOf_3 29 = .ok (.aload_n 0, 1) := dk_42 (dk_at dksJ16_copyOf_3_1 5 rfl rfl)
theorem dJ16_copyOf_3_30 : decode cJ16_copyOf_3 30 = .ok (.arraylength, 1) := dk_190 (dk_at dksJ16_copyOf_3_1 6 rfl rfl)
theorem dJ16_copyOf_3_31 : decode cJ16_copyOf_3 31 = .ok (.iload_n 1, 1) := dk_27 (dk_at dksJ16_copyOf_3_1 7 rfl rfl)
theorem dJ16_copyOf_3_32 : decode cJ16_copyOf_3 32 = .ok (.invokestatic 304, 3) := dk_184 1 48 (dk_at dksJ16_copyOf_3_1 8 rfl rfl)
theorem dJ16_copyOf_3_35 : decode cJ16_copyOf_3 35 = .ok (.invokestatic 150, 3) := dk_184 0 150 (dk_at dksJ16_copyOf_3_1 11 rfl rfl)
theorem dJ16_copyOf_3_38 : decode cJ16_copyOf_3 38 = .ok (.aload_n 3, 1) := dk_45 (dk_at dksJ16_copyOf_3_1 14 rfl rfl)
theorem dJ16_copyOf_3_39 : decode cJ16_copyOf_3 39 = .ok (.areturn, 1) := dk_176 (dk_at dksJ16_copyOf_3_1 15 rfl rfl)
def RJ14 : String := "jdk/internal/util/ArraysSupport"
abbrev cJ14_newLength : ByteArray := prog_67_method_27_code
def yJ14_newLength : MethodName := ⟨RJ14, "newLength", "(III)I"⟩
def dkwJ14_newLength_1 : List UInt8 := [184, 0, 201, 172]
abbrev dktJ14_newLength_1 : List UInt8 := dkwJ14_newLength_1 ++ []
def dkwJ14_newLength_0 : List UInt8 := [26, 27, 28, 184, 0, 194, 96, 62, 3, 29, 162, 0, 11, 29, 18, 200, 163, 0, 5, 29, 172, 26, 27]
abbrev dktJ14_newLength_0 : List UInt8 := dkwJ14_newLength_0 ++ dktJ14_newLength_1
theorem dksJ14_newLength_0 : cJ14_newLength.data.toList.drop 0 = dktJ14_newLength_0 := by decide +kernel
theorem dksJ14_newLength_1 : cJ14_newLength.data.toList.drop 23 = dktJ14_newLength_1 := dk_seg dksJ14_newLength_0 23 rfl rfl
theorem dJ14_newLength_0 : decode cJ14_newLength 0 = .ok (.iload_n 0, 1) := dk_26 (dk_at dksJ14_newLength_0 0 rfl rfl)
theorem dJ14_newLength_1 : decode cJ14_newLength 1 = .ok (.iload_n 1, 1) := dk_27 (dk_at dksJ14_newLength_0 1 rfl rfl)
theorem dJ14_newLength_2 : decode cJ14_newLength 2 = .ok (.iload_n 2, 1) := dk_28 (dk_at dksJ14_newLength_0 2 rfl rfl)
theorem dJ14_newLength_3 : decode cJ14_newLength 3 = .ok (.invokestatic 194, 3) := dk_184 0 194 (dk_at dksJ14_newLength_0 3 rfl rfl)
theorem dJ14_newLength_6 : decode cJ14_newLength 6 = .ok (.iadd, 1) := dk_96 (dk_at dksJ14_newLength_0 6 rfl rfl)
theorem dJ14_newLength_7 : decode cJ14_newLength 7 = .ok (.istore_n 3, 1) := dk_62 (dk_at dksJ14_newLength_0 7 rfl rfl)
theorem dJ14_newLength_8 : decode cJ14_newLength 8 = .ok (.iconst 0, 1) := dk_3 (dk_at dksJ14_newLength_0 8 rfl rfl)
theorem dJ14_newLength_9 : decode cJ14_newLength 9 = .ok (.iload_n 3, 1) := dk_29 (dk_at dksJ14_newLength_0 9 rfl rfl)
theorem dJ14_newLength_10 : decode cJ14_newLength 10 = .ok (.if_icmp .ge 11, 3) := dk_162 0 11 (dk_at dksJ14_newLength_0 10 rfl rfl)
theorem dJ14_newLength_13 : decode cJ14_newLength 13 = .ok (.iload_n 3, 1) := dk_29 (dk_at dksJ14_newLength_0 13 rfl rfl)
theorem dJ14_newLength_14 : decode cJ14_newLength 14 = .ok (.ldc 200, 2) := dk_18 200 (dk_at dksJ14_newLength_0 14 rfl rfl)
theorem dJ14_newLength_16 : decode cJ14_newLength 16 = .ok (.if_icmp .gt 5, 3) := dk_163 0 5 (dk_at dksJ14_newLength_0 16 rfl rfl)
theorem dJ14_newLength_19 : decode cJ14_newLength 19 = .ok (.iload_n 3, 1) := dk_29 (dk_at dksJ14_newLength_0 19 rfl rfl)
theorem dJ14_newLength_20 : decode cJ14_newLength 20 = .ok (.ireturn, 1) := dk_172 (dk_at dksJ14_newLength_0 20 rfl rfl)
theorem dJ14_newLength_21 : decode cJ14_newLength 21 = .ok (.iload_n 0, 1) := dk_26 (dk_at dksJ14_newLength_0 21 rfl rfl)
theorem dJ14_newLength_22 : decode cJ14_newLength 22 = .ok (.iload_n 1, 1) := dk_27 (dk_at dksJ14_newLength_0 22 rfl rfl)
theorem dJ14_newLength_23 : decode cJ14_newLength 23 = .ok (.invokestatic 201, 3) := dk_184 0 201 (dk_at dksJ14_newLength_1 0 rfl rfl)
theorem dJ14_newLength_26 : decode cJ14_newLength 26 = .ok (.ireturn, 1) := dk_172 (dk_at dksJ14_newLength_1 3 rfl rfl)
abbrev cJ14_vectorizedHashCode : ByteArray := prog_67_method_4_code
def yJ14_vectorizedHashCode : MethodName := ⟨RJ14, "vectorizedHashCode", "(Ljava/lang/Object;IIII)I"⟩
def dkwJ14_vectorizedHashCode_6 : List UInt8 := [183, 0, 91, 18, 92, 182, 0, 94, 21, 4, 182, 0, 98, 182, 0, 101, 183, 0, 105, 191, 172]
abbrev dktJ14_vectorizedHashCode_6 : List UInt8 := dkwJ14_vectorizedHashCode_6 ++ []
def dkwJ14_vectorizedHashCode_5 : List UInt8 := [167, 0, 44, 29, 42, 192, 0, 82, 27, 28, 184, 0, 84, 167, 0, 31, 187, 0, 87, 89, 187, 0, 89, 89]
abbrev dktJ14_vectorizedHashCode_5 : List UInt8 := dkwJ14_vectorizedHashCode_5 ++ dktJ14_vectorizedHashCode_6
def dkwJ14_vectorizedHashCode_4 : List UInt8 := [29, 42, 192, 0, 60, 27, 28, 184, 0, 75, 167, 0, 57, 29, 42, 192, 0, 77, 27, 28, 184, 0, 79]
abbrev dktJ14_vectorizedHashCode_4 : List UInt8 := dkwJ14_vectorizedHashCode_4 ++ dktJ14_vectorizedHashCode_5
def dkwJ14_vectorizedHashCode_3 : List UInt8 := [192, 0, 60, 27, 28, 184, 0, 66, 167, 0, 83, 29, 42, 192, 0, 69, 27, 28, 184, 0, 71, 167, 0, 70]
abbrev dktJ14_vectorizedHashCode_3 : List UInt8 := dkwJ14_vectorizedHashCode_3 ++ dktJ14_vectorizedHashCode_4
def dkwJ14_vectorizedHashCode_2 : List UInt8 := [29, 42, 192, 0, 60, 27, 28, 184, 0, 62, 167, 0, 103, 42, 193, 0, 60, 153, 0, 16, 29, 42]
abbrev dktJ14_vectorizedHashCode_2 : List UInt8 := dkwJ14_vectorizedHashCode_2 ++ dktJ14_vectorizedHashCode_3
def dkwJ14_vectorizedHashCode_1 : List UInt8 := [170, 0, 0, 0, 0, 127, 0, 0, 0, 4, 0, 0, 0, 10, 0, 0, 0, 42, 0, 0, 0, 55, 0, 0, 0, 127, 0, 0, 0, 127, 0, 0, 0, 88, 0, 0, 0, 101, 0, 0, 0, 114]
abbrev dktJ14_vectorizedHashCode_1 : List UInt8 := dkwJ14_vectorizedHashCode_1 ++ dktJ14_vectorizedHashCode_2
def dkwJ14_vectorizedHashCode_0 : List UInt8 := [21, 4]
abbrev dktJ14_vectorizedHashCode_0 : List UInt8 := dkwJ14_vectorizedHashCode_0 ++ dktJ14_vectorizedHashCode_1
theorem dksJ14_vectorizedHashCode_0 : cJ14_vectorizedHashCode.data.toList.drop 0 = dktJ14_vectorizedHashCode_0 := by decide +kernel
theorem dksJ14_vectorizedHashCode_1 : cJ14_vectorizedHashCode.data.toList.drop 2 = dktJ14_vectorizedHashCode_1 := dk_seg dksJ14_vectorizedHashCode_0 2 rfl rfl
theorem dksJ14_vectorizedHashCode_2 : cJ14_vectorizedHashCode.data.toList.drop 44 = dktJ14_vectorizedHashCode_2 := dk_seg dksJ14_vectorizedHashCode_1 42 rfl rfl
theorem dksJ14_vectorizedHashCode_3 : cJ14_vectorizedHashCode.data.toList.drop 66 = dktJ14_vectorizedHashCode_3 := dk_seg dksJ14_vectorizedHashCode_2 22 rfl rfl
theorem dksJ14_vectorizedHashCode_4 : cJ14_vectorizedHashCode.data.toList.drop 90 = dktJ14_vectorizedHashCode_4 := dk_seg dksJ14_vectorizedHashCode_3 24 rfl rfl
theorem dksJ14_vectorizedHashCode_5 : cJ14_vectorizedHashCode.data.toList.drop 113 = dktJ14_vectorizedHashCode_5 := dk_seg dksJ14_vectorizedHashCode_4 23 rfl rfl
theorem dksJ14_vectorizedHashCode_6 : cJ14_vectorizedHashCode.data.toList.drop 137 = dktJ14_vectorizedHashCode_6 := dk_seg dksJ14_vectorizedHashCode_5 24 rfl rfl
theorem dJ14_vectorizedHashCode_0 : decode cJ14_vectorizedHashCode 0 = .ok (.iload 4, 2) := dk_21 4 (dk_at dksJ14_vectorizedHashCode_0 0 rfl rfl)
theorem dJ14_vectorizedHashCode_2 : decode cJ14_vectorizedHashCode 2 = .ok (.tableswitch 127 4 10 #[42, 55, 127, 127, 88, 101, 114], 42) := by decide +kernel
theorem dJ14_vectorizedHashCode_44 : decode cJ14_vectorizedHashCode 44 = .ok (.iload_n 3, 1) := dk_29 (dk_at dksJ14_vectorizedHashCode_2 0 rfl rfl)
theorem dJ14_vectorizedHashCode_45 : decode cJ14_vectorizedHashCode 45 = .ok (.aload_n 0, 1) := dk_42 (dk_at dksJ14_vectorizedHashCode_2 1 rfl rfl)
theorem dJ14_vectorizedHashCode_46 : decode cJ14_vectorizedHashCode 46 = .ok (.checkcast 60, 3) := dk_192 0 60 (dk_at dksJ14_vectorizedHashCode_2 2 rfl rfl)
theorem dJ14_vectorizedHashCode_49 : decode cJ14_vectorizedHashCode 49 = .ok (.iload_n 1, 1) := dk_27 (dk_at dksJ14_vectorizedHashCode_2 5 rfl rfl)
theorem dJ14_vectorizedHashCode_50 : decode cJ14_vectorizedHashCode 50 = .ok (.iload_n 2, 1) := dk_28 (dk_at dksJ14_vectorizedHashCode_2 6 rfl rfl)
theorem dJ14_vectorizedHashCode_51 : decode cJ14_vectorizedHashCode 51 = .ok (.invokestatic 62, 3) := dk_184 0 62 (dk_at dksJ14_vectorizedHashCode_2 7 rfl rfl)
theorem dJ14_vectorizedHashCode_54 : decode cJ14_vectorizedHashCode 54 = .ok (.goto 103, 3) := dk_167 0 103 (dk_at dksJ14_vectorizedHashCode_2 10 rfl rfl)
theorem dJ14_vectorizedHashCode_57 : decode cJ14_vectorizedHashCode 57 = .ok (.aload_n 0, 1) := dk_42 (dk_at dksJ14_vectorizedHashCode_2 13 rfl rfl)
theorem dJ14_vectorizedHashCode_58 : decode cJ14_vectorizedHashCode 58 = .ok (.instanceof 60, 3) := dk_193 0 60 (dk_at dksJ14_vectorizedHashCode_2 14 rfl rfl)
theorem dJ14_vectorizedHashCode_61 : decode cJ14_vectorizedHashCode 61 = .ok (.ifCond .eq 16, 3) := dk_153 0 16 (dk_at dksJ14_vectorizedHashCode_2 17 rfl rfl)
theorem dJ14_vectorizedHashCode_64 : decode cJ14_vectorizedHashCode 64 = .ok (.iload_n 3, 1) := dk_29 (dk_at dksJ14_vectorizedHashCode_2 20 rfl rfl)
theorem dJ14_vectorizedHashCode_65 : decode cJ14_vectorizedHashCode 65 = .ok (.aload_n 0, 1) := dk_42 (dk_at dksJ14_vectorizedHashCode_2 21 rfl rfl)
theorem dJ14_vectorizedHashCode_66 : decode cJ14_vectorizedHashCode 66 = .ok (.checkcast 60, 3) := dk_192 0 60 (dk_at dksJ14_vectorizedHashCode_3 0 rfl rfl)
theorem dJ14_vectorizedHashCode_69 : decode cJ14_vectorizedHashCode 69 = .ok (.iload_n 1, 1) := dk_27 (dk_at dksJ14_vectorizedHashCode_3 3 rfl rfl)
theorem dJ14_vectorizedHashCode_70 : decode cJ14_vectorizedHashCode 70 = .ok (.iload_n 2, 1) := dk_28 (dk_at dksJ14_vectorizedHashCode_3 4 rfl rfl)
theorem dJ14_vectorizedHashCode_71 : decode cJ14_vectorizedHashCode 71 = .ok (.invokestatic 66, 3) := dk_184 0 66 (dk_at dksJ14_vectorizedHashCode_3 5 rfl rfl)
theorem dJ14_vectorizedHashCode_74 : decode cJ14_vectorizedHashCode 74 = .ok (.goto 83, 3) := dk_167 0 83 (dk_at dksJ14_vectorizedHashCode_3 8 rfl rfl)
theorem dJ14_vectorizedHashCode_77 : decode cJ14_vectorizedHashCode 77 = .ok (.iload_n 3, 1) := dk_29 (dk_at dksJ14_vectorizedHashCode_3 11 rfl rfl)
theorem dJ14_vectorizedHashCode_78 : decode cJ14_vectorizedHashCode 78 = .ok (.aload_n 0, 1) := dk_42 (dk_at dksJ14_vectorizedHashCode_3 12 rfl rfl)
theorem dJ14_vectorizedHashCode_79 : decode cJ14_vectorizedHashCode 79 = .ok (.checkcast 69, 3) := dk_192 0 69 (dk_at dksJ14_vectorizedHashCode_3 13 rfl rfl)
theorem dJ14_vectorizedHashCode_82 : decode cJ14_vectorizedHashCode 82 = .ok (.iload_n 1, 1) := dk_27 (dk_at dksJ14_vectorizedHashCode_3 16 rfl rfl)
theorem dJ14_vectorizedHashCode_83 : decode cJ14_vectorizedHashCode 83 = .ok (.iload_n 2, 1) := dk_28 (dk_at dksJ14_vectorizedHashCode_3 17 rfl rfl)
theorem dJ14_vectorizedHashCode_84 : decode cJ14_vectorizedHashCode 84 = .ok (.invokestatic 71, 3) := dk_184 0 71 (dk_at dksJ14_vectorizedHashCode_3 18 rfl rfl)
theorem dJ14_vectorizedHashCode_87 : decode cJ14_vectorizedHashCode 87 = .ok (.goto 70, 3) := dk_167 0 70 (dk_at dksJ14_vectorizedHashCode_3 21 rfl rfl)
theorem dJ14_vectorizedHashCode_90 : decode cJ14_vectorizedHashCode 90 = .ok (.iload_n 3, 1) := dk_29 (dk_at dksJ14_vectorizedHashCode_4 0 rfl rfl)
theorem dJ14_vectorizedHashCode_91 : decode cJ14_vectorizedHashCode 91 = .ok (.aload_n 0, 1) := dk_42 (dk_at dksJ14_vectorizedHashCode_4 1 rfl rfl)
theorem dJ14_vectorizedHashCode_92 : decode cJ14_vectorizedHashCode 92 = .ok (.checkcast 60, 3) := dk_192 0 60 (dk_at dksJ14_vectorizedHashCode_4 2 rfl rfl)
theorem dJ14_vectorizedHashCode_95 : decode cJ14_vectorizedHashCode 95 = .ok (.iload_n 1, 1) := dk_27 (dk_at dksJ14_vectorizedHashCode_4 5 rfl rfl)
theorem dJ14_vectorizedHashCode_96 : decode cJ14_vectorizedHashCode 96 = .ok (.iload_n 2, 1) := dk_28 (dk_at dksJ14_vectorizedHashCode_4 6 rfl rfl)
theorem dJ14_vectorizedHashCode_97 : decode cJ14_vectorizedHashCode 97 = .ok (.invokestatic 75, 3) := dk_184 0 75 (dk_at dksJ14_vectorizedHashCode_4 7 rfl rfl)
theorem dJ14_vectorizedHashCode_100 : decode cJ14_vectorizedHashCode 100 = .ok (.goto 57, 3) := dk_167 0 57 (dk_at dksJ14_vectorizedHashCode_4 10 rfl rfl)
theorem dJ14_vectorizedHashCode_103 : decode cJ14_vectorizedHashCode 103 = .ok (.iload_n 3, 1) := dk_29 (dk_at dksJ14_vectorizedHashCode_4 13 rfl rfl)
theorem dJ14_vectorizedHashCode_104 : decode cJ14_vectorizedHashCode 104 = .ok (.aload_n 0, 1) := dk_42 (dk_at dksJ14_vectorizedHashCode_4 14 rfl rfl)
theorem dJ14_vectorizedHashCode_105 : decode cJ14_vectorizedHashCode 105 = .ok (.checkcast 77, 3) := dk_192 0 77 (dk_at dksJ14_vectorizedHashCode_4 15 rfl rfl)
theorem dJ14_vectorizedHashCode_108 : decode cJ14_vectorizedHashCode 108 = .ok (.iload_n 1, 1) := dk_27 (dk_at dksJ14_vectorizedHashCode_4 18 rfl rfl)
theorem dJ14_vectorizedHashCode_109 : decode cJ14_vectorizedHashCode 109 = .ok (.iload_n 2, 1) := dk_28 (dk_at dksJ14_vectorizedHashCode_4 19 rfl rfl)
theorem dJ14_vectorizedHashCode_110 : decode cJ14_vectorizedHashCode 110 = .ok (.invokestatic 79, 3) := dk_184 0 79 (dk_at dksJ14_vectorizedHashCode_4 20 rfl rfl)
theorem dJ14_vectorizedHashCode_113 : decode cJ14_vectorizedHashCode 113 = .ok (.goto 44, 3) := dk_167 0 44 (dk_at dksJ14_vectorizedHashCode_5 0 rfl rfl)
theorem dJ14_vectorizedHashCode_116 : decode cJ14_vectorizedHashCode 116 = .ok (.iload_n 3, 1) := dk_29 (dk_at dksJ14_vectorizedHashCode_5 3 rfl rfl)
theorem dJ14_vectorizedHashCode_117 : decode cJ14_vectorizedHashCode 117 = .ok (.aload_n 0, 1) := dk_42 (dk_at dksJ14_vectorizedHashCode_5 4 rfl rfl)
theorem dJ14_vectorizedHashCode_118 : decode cJ14_vectorizedHashCode 118 = .ok (.checkcast 82, 3) := dk_192 0 82 (dk_at dksJ14_vectorizedHashCode_5 5 rfl rfl)
theorem dJ14_vectorizedHashCode_121 : decode cJ14_vectorizedHashCode 121 = .ok (.iload_n 1, 1) := dk_27 (dk_at dksJ14_vectorizedHashCode_5 8 rfl rfl)
theorem dJ14_vectorizedHashCode_122 : decode cJ14_vectorizedHashCode 122 = .ok (.iload_n 2, 1) := dk_28 (dk_at dksJ14_vectorizedHashCode_5 9 rfl rfl)
theorem dJ14_vectorizedHashCode_123 : decode cJ14_vectorizedHashCode 123 = .ok (.invokestatic 84, 3) := dk_184 0 84 (dk_at dksJ14_vectorizedHashCode_5 10 rfl rfl)
theorem dJ14_vectorizedHashCode_126 : decode cJ14_vectorizedHashCode 126 = .ok (.goto 31, 3) := dk_167 0 31 (dk_at dksJ14_vectorizedHashCode_5 13 rfl rfl)
theorem dJ14_vectorizedHashCode_129 : decode cJ14_vectorizedHashCode 129 = .ok (.new 87, 3) := dk_187 0 87 (dk_at dksJ14_vectorizedHashCode_5 16 rfl rfl)
theorem dJ14_vectorizedHashCode_132 : decode cJ14_vectorizedHashCode 132 = .ok (.dup, 1) := dk_89 (dk_at dksJ14_vectorizedHashCode_5 19 rfl rfl)
theorem dJ14_vectorizedHashCode_133 : decode cJ14_vectorizedHashCode 133 = .ok (.new 89, 3) := dk_187 0 89 (dk_at dksJ14_vectorizedHashCode_5 20 rfl rfl)
theorem dJ14_vectorizedHashCode_136 : decode cJ14_vectorizedHashCode 136 = .ok (.dup, 1) := dk_89 (dk_at dksJ14_vectorizedHashCode_5 23 rfl rfl)
theorem dJ14_vectorizedHashCode_137 : decode cJ14_vectorizedHashCode 137 = .ok (.invokespecial 91, 3) := dk_183 0 91 (dk_at dksJ14_vectorizedHashCode_6 0 rfl rfl)
theorem dJ14_vectorizedHashCode_140 : decode cJ14_vectorizedHashCode 140 = .ok (.ldc 92, 2) := dk_18 92 (dk_at dksJ14_vectorizedHashCode_6 3 rfl rfl)
theorem dJ14_vectorizedHashCode_142 : decode cJ14_vectorizedHashCode 142 = .ok (.invokevirtual 94, 3) := dk_182 0 94 (dk_at dksJ14_vectorizedHashCode_6 5 rfl rfl)
theorem dJ14_vectorizedHashCode_145 : decode cJ14_vectorizedHashCode 145 = .ok (.iload 4, 2) := dk_21 4 (dk_at dksJ14_vectorizedHashCode_6 8 rfl rfl)
theorem dJ14_vectorizedHashCode_147 : decode cJ14_vectorizedHashCode 147 = .ok (.invokevirtual 98, 3) := dk_182 0 98 (dk_at dksJ14_vectorizedHashCode_6 10 rfl rfl)
theorem dJ14_vectorizedHashCode_150 : decode cJ14_vectorizedHashCode 150 = .ok (.invokevirtual 101, 3) := dk_182 0 101 (dk_at dksJ14_vectorizedHashCode_6 13 rfl rfl)
theorem dJ14_vectorizedHashCode_153 : decode cJ14_vectorizedHashCode 153 = .ok (.invokespecial 105, 3) := dk_183 0 105 (dk_at dksJ14_vectorizedHashCode_6 16 rfl rfl)
theorem dJ14_vectorizedHashCode_156 : decode cJ14_vectorizedHashCode 156 = .ok (.athrow, 1) := dk_191 (dk_at dksJ14_vectorizedHashCode_6 19 rfl rfl)
theorem dJ14_vectorizedHashCode_157 : decode cJ14_vectorizedHashCode 157 = .ok (.ireturn, 1) := dk_172 (dk_at dksJ14_vectorizedHashCode_6 20 rfl rfl)
abbrev cJ14_signedHashCode : ByteArray := prog_67_method_5_code
def yJ14_signedHashCode : MethodName := ⟨RJ14, "signedHashCode", "(I[BII)I"⟩
def dkwJ14_signedHashCode_1 : List UInt8 := [17, 0, 255, 126, 96, 59, 132, 5, 1, 167, 255, 232, 26, 172]
abbrev dktJ14_signedHashCode_1 : List UInt8 := dkwJ14_signedHashCode_1 ++ []
def dkwJ14_signedHashCode_0 : List UInt8 := [28, 29, 96, 54, 4, 28, 54, 5, 21, 5, 21, 4, 162, 0, 23, 16, 31, 26, 104, 43, 21, 5, 51]
abbrev dktJ14_signedHashCode_0 : List UInt8 := dkwJ14_signedHashCode_0 ++ dktJ14_signedHashCode_1
theorem dksJ14_signedHashCode_0 : cJ14_signedHashCode.data.toList.drop 0 = dktJ14_signedHashCode_0 := by decide +kernel
theorem dksJ14_signedHashCode_1 : cJ14_signedHashCode.data.toList.drop 23 = dktJ14_signedHashCode_1 := dk_seg dksJ14_signedHashCode_0 23 rfl rfl
theorem dJ14_signedHashCode_0 : decode cJ14_signedHashCode 0 = .ok (.iload_n 2, 1) := dk_28 (dk_at dksJ14_signedHashCode_0 0 rfl rfl)
theorem dJ14_signedHashCode_1 : decode cJ14_signedHashCode 1 = .ok (.iload_n 3, 1) := dk_29 (dk_at dksJ14_signedHashCode_0 1 rfl rfl)
theorem dJ14_signedHashCode_2 : decode cJ14_signedHashCode 2 = .ok (.iadd, 1) := dk_96 (dk_at dksJ14_signedHashCode_0 2 rfl rfl)
theorem dJ14_signedHashCode_3 : decode cJ14_signedHashCode 3 = .ok (.istore 4, 2) := dk_54 4 (dk_at dksJ14_signedHashCode_0 3 rfl rfl)
theorem dJ14_signedHashCode_5 : decode cJ14_signedHashCode 5 = .ok (.iload_n 2, 1) := dk_28 (dk_at dksJ14_signedHashCode_0 5 rfl rfl)
theorem dJ14_signedHashCode_6 : decode cJ14_signedHashCode 6 = .ok (.istore 5, 2) := dk_54 5 (dk_at dksJ14_signedHashCode_0 6 rfl rfl)
theorem dJ14_signedHashCode_8 : decode cJ14_signedHashCode 8 = .ok (.iload 5, 2) := dk_21 5 (dk_at dksJ14_signedHashCode_0 8 rfl rfl)
theorem dJ14_signedHashCode_10 : decode cJ14_signedHashCode 10 = .ok (.iload 4, 2) := dk_21 4 (dk_at dksJ14_signedHashCode_0 10 rfl rfl)
theorem dJ14_signedHashCode_12 : decode cJ14_signedHashCode 12 = .ok (.if_icmp .ge 23, 3) := dk_162 0 23 (dk_at dksJ14_signedHashCode_0 12 rfl rfl)
theorem dJ14_signedHashCode_15 : decode cJ14_signedHashCode 15 = .ok (.bipush 31, 2) := dk_16 31 (dk_at dksJ14_signedHashCode_0 15 rfl rfl)
theorem dJ14_signedHashCode_17 : decode cJ14_signedHashCode 17 = .ok (.iload_n 0, 1) := dk_26 (dk_at dksJ14_signedHashCode_0 17 rfl rfl)
theorem dJ14_signedHashCode_18 : decode cJ14_signedHashCode 18 = .ok (.imul, 1) := dk_104 (dk_at dksJ14_signedHashCode_0 18 rfl rfl)
theorem dJ14_signedHashCode_19 : decode cJ14_signedHashCode 19 = .ok (.aload_n 1, 1) := dk_43 (dk_at dksJ14_signedHashCode_0 19 rfl rfl)
theorem dJ14_signedHashCode_20 : decode cJ14_signedHashCode 20 = .ok (.iload 5, 2) := dk_21 5 (dk_at dksJ14_signedHashCode_0 20 rfl rfl)
theorem dJ14_signedHashCode_22 : decode cJ14_signedHashCode 22 = .ok (.baload, 1) := dk_51 (dk_at dksJ14_signedHashCode_0 22 rfl rfl)
theorem dJ14_signedHashCode_23 : decode cJ14_signedHashCode 23 = .ok (.sipush 255, 3) := dk_17 0 255 (dk_at dksJ14_signedHashCode_1 0 rfl rfl)
theorem dJ14_signedHashCode_26 : decode cJ14_signedHashCode 26 = .ok (.iand, 1) := dk_126 (dk_at dksJ14_signedHashCode_1 3 rfl rfl)
theorem dJ14_signedHashCode_27 : decode cJ14_signedHashCode 27 = .ok (.iadd, 1) := dk_96 (dk_at dksJ14_signedHashCode_1 4 rfl rfl)
theorem dJ14_signedHashCode_28 : decode cJ14_signedHashCode 28 = .ok (.istore_n 0, 1) := dk_59 (dk_at dksJ14_signedHashCode_1 5 rfl rfl)
theorem dJ14_signedHashCode_29 : decode cJ14_signedHashCode 29 = .ok (.iinc 5 1, 3) := dk_132 5 1 (dk_at dksJ14_signedHashCode_1 6 rfl rfl)
theorem dJ14_signedHashCode_32 : decode cJ14_signedHashCode 32 = .ok (.goto (-24), 3) := dk_167 255 232 (dk_at dksJ14_signedHashCode_1 9 rfl rfl)
theorem dJ14_signedHashCode_35 : decode cJ14_signedHashCode 35 = .ok (.iload_n 0, 1) := dk_26 (dk_at dksJ14_signedHashCode_1 12 rfl rfl)
theorem dJ14_signedHashCode_36 : decode cJ14_signedHashCode 36 = .ok (.ireturn, 1) := dk_172 (dk_at dksJ14_signedHashCode_1 13 rfl rfl)
abbrev cJ1_init : ByteArray := prog_48_method_3_code
def yJ1_init : MethodName := ⟨RJ1, "<init>", "()V"⟩
def dkwJ1_init_0 : List UInt8 := [42, 183, 0, 42, 42, 16, 17, 189, 0, 47, 181, 0, 3, 177]
abbrev dktJ1_init_0 : List UInt8 := dkwJ1_init_0 ++ []
theorem dksJ1_init_0 : cJ1_init.data.toList.drop 0 = dktJ1_init_0 := by decide +kernel
theorem dJ1_init_0 : decode cJ1_init 0 = .ok (.aload_n 0, 1) := dk_42 (dk_at dksJ1_init_0 0 rfl rfl)
theorem dJ1_init_1 : decode cJ1_init 1 = .ok (.invokespecial 42, 3) := dk_183 0 42 (dk_at dksJ1_init_0 1 rfl rfl)
theorem dJ1_init_4 : decode cJ1_init 4 = .ok (.aload_n 0, 1) := dk_42 (dk_at dksJ1_init_0 4 rfl rfl)
theorem dJ1_init_5 : decode cJ1_init 5 = .ok (.bipush 17, 2) := dk_16 17 (dk_at dksJ1_init_0 5 rfl rfl)
theorem dJ1_init_7 : decode cJ1_init 7 = .ok (.anewarray 47, 3) := dk_189 0 47 (dk_at dksJ1_init_0 7 rfl rfl)
theorem dJ1_init_10 : decode cJ1_init 10 = .ok (.putfield 3, 3) := dk_181 0 3 (dk_at dksJ1_init_0 10 rfl rfl)
theorem dJ1_init_13 : decode cJ1_init 13 = .ok (.return_, 1) := dk_177 (dk_at dksJ1_init_0 13 rfl rfl)
abbrev cJ1_clear : ByteArray := prog_48_method_53_code
def yJ1_clear : MethodName := ⟨RJ1, "clear", "()V"⟩
def dkwJ1_clear_1 : List UInt8 := [181, 0, 24, 177]
abbrev dktJ1_clear_1 : List UInt8 := dkwJ1_clear_1 ++ []
def dkwJ1_clear_0 : List UInt8 := [42, 180, 0, 3, 42, 180, 0, 24, 42, 180, 0, 20, 184, 0, 181, 42, 42, 3, 90, 181, 0, 20]
abbrev dktJ1_clear_0 : List UInt8 := dkwJ1_clear_0 ++ dktJ1_clear_1
theorem dksJ1_clear_0 : cJ1_clear.data.toList.drop 0 = dktJ1_clear_0 := by decide +kernel
theorem dksJ1_clear_1 : cJ1_clear.data.toList.drop 22 = dktJ1_clear_1 := dk_seg dksJ1_clear_0 22 rfl rfl
theorem dJ1_clear_0 : decode cJ1_clear 0 = .ok (.aload_n 0, 1) := dk_42 (dk_at dksJ1_clear_0 0 rfl rfl)
theorem dJ1_clear_1 : decode cJ1_clear 1 = .ok (.getfield 3, 3) := dk_180 0 3 (dk_at dksJ1_clear_0 1 rfl rfl)
theorem dJ1_clear_4 : decode cJ1_clear 4 = .ok (.aload_n 0, 1) := dk_42 (dk_at dksJ1_clear_0 4 rfl rfl)
theorem dJ1_clear_5 : decode cJ1_clear 5 = .ok (.getfield 24, 3) := dk_180 0 24 (dk_at dksJ1_clear_0 5 rfl rfl)
theorem dJ1_clear_8 : decode cJ1_clear 8 = .ok (.aload_n 0, 1) := dk_42 (dk_at dksJ1_clear_0 8 rfl rfl)
theorem dJ1_clear_9 : decode cJ1_clear 9 = .ok (.getfield 20, 3) := dk_180 0 20 (dk_at dksJ1_clear_0 9 rfl rfl)
theorem dJ1_clear_12 : decode cJ1_clear 12 = .ok (.invokestatic 181, 3) := dk_184 0 181 (dk_at dksJ1_clear_0 12 rfl rfl)
theorem dJ1_clear_15 : decode cJ1_clear 15 = .ok (.aload_n 0, 1) := dk_42 (dk_at dksJ1_clear_0 15 rfl rfl)
theorem dJ1_clear_16 : decode cJ1_clear 16 = .ok (.aload_n 0, 1) := dk_42 (dk_at dksJ1_clear_0 16 rfl rfl)
theorem dJ1_clear_17 : decode cJ1_clear 17 = .ok (.iconst 0, 1) := dk_3 (dk_at dksJ1_clear_0 17 rfl rfl)
theorem dJ1_clear_18 : decode cJ1_clear 18 = .ok (.dup_x1, 1) := dk_90 (dk_at dksJ1_clear_0 18 rfl rfl)
theorem dJ1_clear_19 : decode cJ1_clear 19 = .ok (.putfield 20, 3) := dk_181 0 20 (dk_at dksJ1_clear_0 19 rfl rfl)
theorem dJ1_clear_22 : decode cJ1_clear 22 = .ok (.putfield 24, 3) := dk_181 0 24 (dk_at dksJ1_clear_1 0 rfl rfl)
theorem dJ1_clear_25 : decode cJ1_clear 25 = .ok (.return_, 1) := dk_177 (dk_at dksJ1_clear_1 3 rfl rfl)
abbrev cJ1_circularClear : ByteArray := prog_48_method_54_code
def yJ1_circularClear : MethodName := ⟨RJ1, "circularClear", "([Ljava/lang/Object;II)V"⟩
def dkwJ1_circularClear_1 : List UInt8 := [167, 255, 244, 29, 28, 160, 0, 6, 167, 0, 10, 3, 60, 28, 62, 167, 255, 229, 177]
abbrev dktJ1_circularClear_1 : List UInt8 := dkwJ1_circularClear_1 ++ []
def dkwJ1_circularClear_0 : List UInt8 := [27, 28, 163, 0, 7, 28, 167, 0, 5, 42, 190, 62, 27, 29, 162, 0, 13, 42, 27, 1, 83, 132, 1, 1]
abbrev dktJ1_circularClear_0 : List UInt8 := dkwJ1_circularClear_0 ++ dktJ1_circularClear_1
theorem dksJ1_circularClear_0 : cJ1_circularClear.data.toList.drop 0 = dktJ1_circularClear_0 := by decide +kernel
theorem dksJ1_circularClear_1 : cJ1_circularClear.data.toList.drop 24 = dktJ1_circularClear_1 := dk_seg dksJ1_circularClear_0 24 rfl rfl
theorem dJ1_circularClear_0 : decode cJ1_circularClear 0 = .ok (.iload_n 1, 1) := dk_27 (dk_at dksJ1_circularClear_0 0 rfl rfl)
theorem dJ1_circularClear_1 : decode cJ1_circularClear 1 = .ok (.iload_n 2, 1) := dk_28 (dk_at dksJ1_circularClear_0 1 rfl rfl)
theorem dJ1_circularClear_2 : decode cJ1_circularClear 2 = .ok (.if_icmp .gt 7, 3) := dk_163 0 7 (dk_at dksJ1_circularClear_0 2 rfl rfl)
theorem dJ1_circularClear_5 : decode cJ1_circularClear 5 = .ok (.iload_n 2, 1) := dk_28 (dk_at dksJ1_circularClear_0 5 rfl rfl)
theorem dJ1_circularClear_6 : decode cJ1_circularClear 6 = .ok (.goto 5, 3) := dk_167 0 5 (dk_at dksJ1_circularClear_0 6 rfl rfl)
theorem dJ1_circularClear_9 : decode cJ1_circularClear 9 = .ok (.aload_n 0, 1) := dk_42 (dk_at dksJ1_circularClear_0 9 rfl rfl)
theorem dJ1_circularClear_10 : decode cJ1_circularClear 10 = .ok (.arraylength, 1) := dk_190 (dk_at dksJ1_circularClear_0 10 rfl rfl)
theorem dJ1_circularClear_11 : decode cJ1_circularClear 11 = .ok (.istore_n 3, 1) := dk_62 (dk_at dksJ1_circularClear_0 11 rfl rfl)
theorem dJ1_circularClear_12 : decode cJ1_circularClear 12 = .ok (.iload_n 1, 1) := dk_27 (dk_at dksJ1_circularClear_0 12 rfl rfl)
theorem dJ1_circularClear_13 : decode cJ1_circularClear 13 = .ok (.iload_n 3, 1) := dk_29 (dk_at dksJ1_circularClear_0 13 rfl rfl)
theorem dJ1_circularClear_14 : decode cJ1_circularClear 14 = .ok (.if_icmp .ge 13, 3) := dk_162 0 13 (dk_at dksJ1_circularClear_0 14 rfl rfl)
theorem dJ1_circularClear_17 : decode cJ1_circularClear 17 = .ok (.aload_n 0, 1) := dk_42 (dk_at dksJ1_circularClear_0 17 rfl rfl)
theorem dJ1_circularClear_18 : decode cJ1_circularClear 18 = .ok (.iload_n 1, 1) := dk_27 (dk_at dksJ1_circularClear_0 18 rfl rfl)
theorem dJ1_circularClear_19 : decode cJ1_circularClear 19 = .ok (.aconst_null, 1) := dk_1 (dk_at dksJ1_circularClear_0 19 rfl rfl)
theorem dJ1_circularClear_20 : decode cJ1_circularClear 20 = .ok (.aastore, 1) := dk_83 (dk_at dksJ1_circularClear_0 20 rfl rfl)
theorem dJ1_circularClear_21 : decode cJ1_circularClear 21 = .ok (.iinc 1 1, 3) := dk_132 1 1 (dk_at dksJ1_circularClear_0 21 rfl rfl)
theorem dJ1_circularClear_24 : decode cJ1_circularClear 24 = .ok (.goto (-12), 3) := dk_167 255 244 (dk_at dksJ1_circularClear_1 0 rfl rfl)
theorem dJ1_circularClear_27 : decode cJ1_circularClear 27 = .ok (.iload_n 3, 1) := dk_29 (dk_at dksJ1_circularClear_1 3 rfl rfl)
theorem dJ1_circularClear_28 : decode cJ1_circularClear 28 = .ok (.iload_n 2, 1) := dk_28 (dk_at dksJ1_circularClear_1 4 rfl rfl)
theorem dJ1_circularClear_29 : decode cJ1_circularClear 29 = .ok (.if_icmp .ne 6, 3) := dk_160 0 6 (dk_at dksJ1_circularClear_1 5 rfl rfl)
theorem dJ1_circularClear_32 : decode cJ1_circularClear 32 = .ok (.goto 10, 3) := dk_167 0 10 (dk_at dksJ1_circularClear_1 8 rfl rfl)
theorem dJ1_circularClear_35 : decode cJ1_circularClear 35 = .ok (.iconst 0, 1) := dk_3 (dk_at dksJ1_circularClear_1 11 rfl rfl)
theorem dJ1_circularClear_36 : decode cJ1_circularClear 36 = .ok (.istore_n 1, 1) := dk_60 (dk_at dksJ1_circularClear_1 12 rfl rfl)
theorem dJ1_circularClear_37 : decode cJ1_circularClear 37 = .ok (.iload_n 2, 1) := dk_28 (dk_at dksJ1_circularClear_1 13 rfl rfl)
theorem dJ1_circularClear_38 : decode cJ1_circularClear 38 = .ok (.istore_n 3, 1) := dk_62 (dk_at dksJ1_circularClear_1 14 rfl rfl)
theorem dJ1_circularClear_39 : decode cJ1_circularClear 39 = .ok (.goto (-27), 3) := dk_167 255 229 (dk_at dksJ1_circularClear_1 15 rfl rfl)
theorem dJ1_circularClear_42 : decode cJ1_circularClear 42 = .ok (.return_, 1) := dk_177 (dk_at dksJ1_circularClear_1 18 rfl rfl)
abbrev cJ1_size : ByteArray := prog_48_method_37_code
def yJ1_size : MethodName := ⟨RJ1, "size", "()I"⟩
def dkwJ1_size_0 : List UInt8 := [42, 180, 0, 20, 42, 180, 0, 24, 42, 180, 0, 3, 190, 184, 0, 127, 172]
abbrev dktJ1_size_0 : List UInt8 := dkwJ1_size_0 ++ []
theorem dksJ1_size_0 : cJ1_size.data.toList.drop 0 = dktJ1_size_0 := by decide +kernel
theorem dJ1_size_0 : decode cJ1_size 0 = .ok (.aload_n 0, 1) := dk_42 (dk_at dksJ1_size_0 0 rfl rfl)
theorem dJ1_size_1 : decode cJ1_size 1 = .ok (.getfield 20, 3) := dk_180 0 20 (dk_at dksJ1_size_0 1 rfl rfl)
theorem dJ1_size_4 : decode cJ1_size 4 = .ok (.aload_n 0, 1) := dk_42 (dk_at dksJ1_size_0 4 rfl rfl)
theorem dJ1_size_5 : decode cJ1_size 5 = .ok (.getfield 24, 3) := dk_180 0 24 (dk_at dksJ1_size_0 5 rfl rfl)
theorem dJ1_size_8 : decode cJ1_size 8 = .ok (.aload_n 0, 1) := dk_42 (dk_at dksJ1_size_0 8 rfl rfl)
theorem dJ1_size_9 : decode cJ1_size 9 = .ok (.getfield 3, 3) := dk_180 0 3 (dk_at dksJ1_size_0 9 rfl rfl)
theorem dJ1_size_12 : decode cJ1_size 12 = .ok (.arraylength, 1) := dk_190 (dk_at dksJ1_size_0 12 rfl rfl)
theorem dJ1_size_13 : decode cJ1_size 13 = .ok (.invokestatic 127, 3) := dk_184 0 127 (dk_at dksJ1_size_0 13 rfl rfl)
theorem dJ1_size_16 : decode cJ1_size 16 = .ok (.ireturn, 1) := dk_172 (dk_at dksJ1_size_0 16 rfl rfl)
abbrev cJ1_sub : ByteArray := prog_48_method_9_code
def yJ1_sub : MethodName := ⟨RJ1, "sub", "(III)I"⟩
def dkwJ1_sub_0 : List UInt8 := [26, 27, 100, 89, 59, 156, 0, 7, 26, 28, 96, 59, 26, 172]
abbrev dktJ1_sub_0 : List UInt8 := dkwJ1_sub_0 ++ []
theorem dksJ1_sub_0 : cJ1_sub.data.toList.drop 0 = dktJ1_sub_0 := by decide +kernel
theorem dJ1_sub_0 : decode cJ1_sub 0 = .ok (.iload_n 0, 1) := dk_26 (dk_at dksJ1_sub_0 0 rfl rfl)
theorem dJ1_sub_1 : decode cJ1_sub 1 = .ok (.iload_n 1, 1) := dk_27 (dk_at dksJ1_sub_0 1 rfl rfl)
theorem dJ1_sub_2 : decode cJ1_sub 2 = .ok (.isub, 1) := dk_100 (dk_at dksJ1_sub_0 2 rfl rfl)
theorem dJ1_sub_3 : decode cJ1_sub 3 = .ok (.dup, 1) := dk_89 (dk_at dksJ1_sub_0 3 rfl rfl)
theorem dJ1_sub_4 : decode cJ1_sub 4 = .ok (.istore_n 0, 1) := dk_59 (dk_at dksJ1_sub_0 4 rfl rfl)
theorem dJ1_sub_5 : decode cJ1_sub 5 = .ok (.ifCond .ge 7, 3) := dk_156 0 7 (dk_at dksJ1_sub_0 5 rfl rfl)
theorem dJ1_sub_8 : decode cJ1_sub 8 = .ok (.iload_n 0, 1) := dk_26 (dk_at dksJ1_sub_0 8 rfl rfl)
theorem dJ1_sub_9 : decode cJ1_sub 9 = .ok (.iload_n 2, 1) := dk_28 (dk_at dksJ1_sub_0 9 rfl rfl)
theorem dJ1_sub_10 : decode cJ1_sub 10 = .ok (.iadd, 1) := dk_96 (dk_at dksJ1_sub_0 10 rfl rfl)
theorem dJ1_sub_11 : decode cJ1_sub 11 = .ok (.istore_n 0, 1) := dk_59 (dk_at dksJ1_sub_0 11 rfl rfl)
theorem dJ1_sub_12 : decode cJ1_sub 12 = .ok (.iload_n 0, 1) := dk_26 (dk_at dksJ1_sub_0 12 rfl rfl)
theorem dJ1_sub_13 : decode cJ1_sub 13 = .ok (.ireturn, 1) := dk_172 (dk_at dksJ1_sub_0 13 rfl rfl)
abbrev cJ1_addLast : ByteArray := prog_48_method_13_code
def yJ1_addLast : MethodName := ⟨RJ1, "addLast", "(Ljava/lang/Object;)V"⟩
def dkwJ1_addLast_2 : List UInt8 := [182, 0, 71, 177]
abbrev dktJ1_addLast_2 : List UInt8 := dkwJ1_addLast_2 ++ []
def dkwJ1_addLast_1 : List UInt8 := [42, 180, 0, 24, 42, 42, 180, 0, 20, 44, 190, 184, 0, 74, 90, 181, 0, 20, 160, 0, 8, 42, 4]
abbrev dktJ1_addLast_1 : List UInt8 := dkwJ1_addLast_1 ++ dktJ1_addLast_2
def dkwJ1_addLast_0 : List UInt8 := [43, 199, 0, 11, 187, 0, 65, 89, 183, 0, 67, 191, 42, 180, 0, 3, 77, 44, 42, 180, 0, 20, 43, 83]
abbrev dktJ1_addLast_0 : List UInt8 := dkwJ1_addLast_0 ++ dktJ1_addLast_1
theorem dksJ1_addLast_0 : cJ1_addLast.data.toList.drop 0 = dktJ1_addLast_0 := by decide +kernel
theorem dksJ1_addLast_1 : cJ1_addLast.data.toList.drop 24 = dktJ1_addLast_1 := dk_seg dksJ1_addLast_0 24 rfl rfl
theorem dksJ1_addLast_2 : cJ1_addLast.data.toList.drop 47 = dktJ1_addLast_2 := dk_seg dksJ1_addLast_1 23 rfl rfl
theorem dJ1_addLast_0 : decode cJ1_addLast 0 = .ok (.aload_n 1, 1) := dk_43 (dk_at dksJ1_addLast_0 0 rfl rfl)
theorem dJ1_addLast_1 : decode cJ1_addLast 1 = .ok (.ifnonnull 11, 3) := dk_199 0 11 (dk_at dksJ1_addLast_0 1 rfl rfl)
theorem dJ1_addLast_4 : decode cJ1_addLast 4 = .ok (.new 65, 3) := dk_187 0 65 (dk_at dksJ1_addLast_0 4 rfl rfl)
theorem dJ1_addLast_7 : decode cJ1_addLast 7 = .ok (.dup, 1) := dk_89 (dk_at dksJ1_addLast_0 7 rfl rfl)
theorem dJ1_addLast_8 : decode cJ1_addLast 8 = .ok (.invokespecial 67, 3) := dk_183 0 67 (dk_at dksJ1_addLast_0 8 rfl rfl)
theorem dJ1_addLast_11 : decode cJ1_addLast 11 = .ok (.athrow, 1) := dk_191 (dk_at dksJ1_addLast_0 11 rfl rfl)
theorem dJ1_addLast_12 : decode cJ1_addLast 12 = .ok (.aload_n 0, 1) := dk_42 (dk_at dksJ1_addLast_0 12 rfl rfl)
theorem dJ1_addLast_13 : decode cJ1_addLast 13 = .ok (.getfield 3, 3) := dk_180 0 3 (dk_at dksJ1_addLast_0 13 rfl rfl)
theorem dJ1_addLast_16 : decode cJ1_addLast 16 = .ok (.astore_n 2, 1) := dk_77 (dk_at dksJ1_addLast_0 16 rfl rfl)
theorem dJ1_addLast_17 : decode cJ1_addLast 17 = .ok (.aload_n 2, 1) := dk_44 (dk_at dksJ1_addLast_0 17 rfl rfl)
theorem dJ1_addLast_18 : decode cJ1_addLast 18 = .ok (.aload_n 0, 1) := dk_42 (dk_at dksJ1_addLast_0 18 rfl rfl)
theorem dJ1_addLast_19 : decode cJ1_addLast 19 = .ok (.getfield 20, 3) := dk_180 0 20 (dk_at dksJ1_addLast_0 19 rfl rfl)
theorem dJ1_addLast_22 : decode cJ1_addLast 22 = .ok (.aload_n 1, 1) := dk_43 (dk_at dksJ1_addLast_0 22 rfl rfl)
theorem dJ1_addLast_23 : decode cJ1_addLast 23 = .ok (.aastore, 1) := dk_83 (dk_at dksJ1_addLast_0 23 rfl rfl)
theorem dJ1_addLast_24 : decode cJ1_addLast 24 = .ok (.aload_n 0, 1) := dk_42 (dk_at dksJ1_addLast_1 0 rfl rfl)
theorem dJ1_addLast_25 : decode cJ1_addLast 25 = .ok (.getfield 24, 3) := dk_180 0 24 (dk_at dksJ1_addLast_1 1 rfl rfl)
theorem dJ1_addLast_28 : decode cJ1_addLast 28 = .ok (.aload_n 0, 1) := dk_42 (dk_at dksJ1_addLast_1 4 rfl rfl)
theorem dJ1_addLast_29 : decode cJ1_addLast 29 = .ok (.aload_n 0, 1) := dk_42 (dk_at dksJ1_addLast_1 5 rfl rfl)
theorem dJ1_addLast_30 : decode cJ1_addLast 30 = .ok (.getfield 20, 3) := dk_180 0 20 (dk_at dksJ1_addLast_1 6 rfl rfl)
theorem dJ1_addLast_33 : decode cJ1_addLast 33 = .ok (.aload_n 2, 1) := dk_44 (dk_at dksJ1_addLast_1 9 rfl rfl)
theorem dJ1_addLast_34 : decode cJ1_addLast 34 = .ok (.arraylength, 1) := dk_190 (dk_at dksJ1_addLast_1 10 rfl rfl)
theorem dJ1_addLast_35 : decode cJ1_addLast 35 = .ok (.invokestatic 74, 3) := dk_184 0 74 (dk_at dksJ1_addLast_1 11 rfl rfl)
theorem dJ1_addLast_38 : decode cJ1_addLast 38 = .ok (.dup_x1, 1) := dk_90 (dk_at dksJ1_addLast_1 14 rfl rfl)
theorem dJ1_addLast_39 : decode cJ1_addLast 39 = .ok (.putfield 20, 3) := dk_181 0 20 (dk_at dksJ1_addLast_1 15 rfl rfl)
theorem dJ1_addLast_42 : decode cJ1_addLast 42 = .ok (.if_icmp .ne 8, 3) := dk_160 0 8 (dk_at dksJ1_addLast_1 18 rfl rfl)
theorem dJ1_addLast_45 : decode cJ1_addLast 45 = .ok (.aload_n 0, 1) := dk_42 (dk_at dksJ1_addLast_1 21 rfl rfl)
theorem dJ1_addLast_46 : decode cJ1_addLast 46 = .ok (.iconst 1, 1) := dk_4 (dk_at dksJ1_addLast_1 22 rfl rfl)
theorem dJ1_addLast_47 : decode cJ1_addLast 47 = .ok (.invokevirtual 71, 3) := dk_182 0 71 (dk_at dksJ1_addLast_2 0 rfl rfl)
theorem dJ1_addLast_50 : decode cJ1_addLast 50 = .ok (.return_, 1) := dk_177 (dk_at dksJ1_addLast_2 3 rfl rfl)
abbrev cJ1_inc : ByteArray := prog_48_method_6_code
def yJ1_inc : MethodName := ⟨RJ1, "inc", "(II)I"⟩
def dkwJ1_inc_0 : List UInt8 := [132, 0, 1, 26, 27, 161, 0, 5, 3, 59, 26, 172]
abbrev dktJ1_inc_0 : List UInt8 := dkwJ1_inc_0 ++ []
theorem dksJ1_inc_0 : cJ1_inc.data.toList.drop 0 = dktJ1_inc_0 := by decide +kernel
theorem dJ1_inc_0 : decode cJ1_inc 0 = .ok (.iinc 0 1, 3) := dk_132 0 1 (dk_at dksJ1_inc_0 0 rfl rfl)
theorem dJ1_inc_3 : decode cJ1_inc 3 = .ok (.iload_n 0, 1) := dk_26 (dk_at dksJ1_inc_0 3 rfl rfl)
theorem dJ1_inc_4 : decode cJ1_inc 4 = .ok (.iload_n 1, 1) := dk_27 (dk_at dksJ1_inc_0 4 rfl rfl)
theorem dJ1_inc_5 : decode cJ1_inc 5 = .ok (.if_icmp .lt 5, 3) := dk_161 0 5 (dk_at dksJ1_inc_0 5 rfl rfl)
theorem dJ1_inc_8 : decode cJ1_inc 8 = .ok (.iconst 0, 1) := dk_3 (dk_at dksJ1_inc_0 8 rfl rfl)
theorem dJ1_inc_9 : decode cJ1_inc 9 = .ok (.istore_n 0, 1) := dk_59 (dk_at dksJ1_inc_0 9 rfl rfl)
theorem dJ1_inc_10 : decode cJ1_inc 10 = .ok (.iload_n 0, 1) := dk_26 (dk_at dksJ1_inc_0 10 rfl rfl)
theorem dJ1_inc_11 : decode cJ1_inc 11 = .ok (.ireturn, 1) := dk_172 (dk_at dksJ1_inc_0 11 rfl rfl)
abbrev cJ1_isEmpty : ByteArray := prog_48_method_38_code
def yJ1_isEmpty : MethodName := ⟨RJ1, "isEmpty", "()Z"⟩
def dkwJ1_isEmpty_0 : List UInt8 := [42, 180, 0, 24, 42, 180, 0, 20, 160, 0, 7, 4, 167, 0, 4, 3, 172]
abbrev dktJ1_isEmpty_0 : List UInt8 := dkwJ1_isEmpty_0 ++ []
theorem dksJ1_isEmpty_0 : cJ1_isEmpty.data.toList.drop 0 = dktJ1_isEmpty_0 := by decide +kernel
theorem dJ1_isEmpty_0 : decode cJ1_isEmpty 0 = .ok (.aload_n 0, 1) := dk_42 (dk_at dksJ1_isEmpty_0 0 rfl rfl)
theorem dJ1_isEmpty_1 : decode cJ1_isEmpty 1 = .ok (.getfield 24, 3) := dk_180 0 24 (dk_at dksJ1_isEmpty_0 1 rfl rfl)
theorem dJ1_isEmpty_4 : decode cJ1_isEmpty 4 = .ok (.aload_n 0, 1) := dk_42 (dk_at dksJ1_isEmpty_0 4 rfl rfl)
theorem dJ1_isEmpty_5 : decode cJ1_isEmpty 5 = .ok (.getfield 20, 3) := dk_180 0 20 (dk_at dksJ1_isEmpty_0 5 rfl rfl)
theorem dJ1_isEmpty_8 : decode cJ1_isEmpty 8 = .ok (.if_icmp .ne 7, 3) := dk_160 0 7 (dk_at dksJ1_isEmpty_0 8 rfl rfl)
theorem dJ1_isEmpty_11 : decode cJ1_isEmpty 11 = .ok (.iconst 1, 1) := dk_4 (dk_at dksJ1_isEmpty_0 11 rfl rfl)
theorem dJ1_isEmpty_12 : decode cJ1_isEmpty 12 = .ok (.goto 4, 3) := dk_167 0 4 (dk_at dksJ1_isEmpty_0 12 rfl rfl)
theorem dJ1_isEmpty_15 : decode cJ1_isEmpty 15 = .ok (.iconst 0, 1) := dk_3 (dk_at dksJ1_isEmpty_0 15 rfl rfl)
theorem dJ1_isEmpty_16 : decode cJ1_isEmpty 16 = .ok (.ireturn, 1) := dk_172 (dk_at dksJ1_isEmpty_0 16 rfl rfl)
abbrev cJ1_pollFirst : ByteArray := prog_48_method_20_code
def yJ1_pollFirst : MethodName := ⟨RJ1, "pollFirst", "()Ljava/lang/Object;"⟩
def dkwJ1_pollFirst_1 : List UInt8 := [42, 28, 43, 190, 184, 0, 74, 181, 0, 24, 45, 176]
abbrev dktJ1_pollFirst_1 : List UInt8 := dkwJ1_pollFirst_1 ++ []
def dkwJ1_pollFirst_0 : List UInt8 := [42, 180, 0, 3, 89, 76, 42, 180, 0, 24, 89, 61, 184, 0, 103, 78, 45, 198, 0, 17, 43, 28, 1, 83]
abbrev dktJ1_pollFirst_0 : List UInt8 := dkwJ1_pollFirst_0 ++ dktJ1_pollFirst_1
theorem dksJ1_pollFirst_0 : cJ1_pollFirst.data.toList.drop 0 = dktJ1_pollFirst_0 := by decide +kernel
theorem dksJ1_pollFirst_1 : cJ1_pollFirst.data.toList.drop 24 = dktJ1_pollFirst_1 := dk_seg dksJ1_pollFirst_0 24 rfl rfl
theorem dJ1_pollFirst_0 : decode cJ1_pollFirst 0 = .ok (.aload_n 0, 1) := dk_42 (dk_at dksJ1_pollFirst_0 0 rfl rfl)
theorem dJ1_pollFirst_1 : decode cJ1_pollFirst 1 = .ok (.getfield 3, 3) := dk_180 0 3 (dk_at dksJ1_pollFirst_0 1 rfl rfl)
theorem dJ1_pollFirst_4 : decode cJ1_pollFirst 4 = .ok (.dup, 1) := dk_89 (dk_at dksJ1_pollFirst_0 4 rfl rfl)
theorem dJ1_pollFirst_5 : decode cJ1_pollFirst 5 = .ok (.astore_n 1, 1) := dk_76 (dk_at dksJ1_pollFirst_0 5 rfl rfl)
theorem dJ1_pollFirst_6 : decode cJ1_pollFirst 6 = .ok (.aload_n 0, 1) := dk_42 (dk_at dksJ1_pollFirst_0 6 rfl rfl)
theorem dJ1_pollFirst_7 : decode cJ1_pollFirst 7 = .ok (.getfield 24, 3) := dk_180 0 24 (dk_at dksJ1_pollFirst_0 7 rfl rfl)
theorem dJ1_pollFirst_10 : decode cJ1_pollFirst 10 = .ok (.dup, 1) := dk_89 (dk_at dksJ1_pollFirst_0 10 rfl rfl)
theorem dJ1_pollFirst_11 : decode cJ1_pollFirst 11 = .ok (.istore_n 2, 1) := dk_61 (dk_at dksJ1_pollFirst_0 11 rfl rfl)
theorem dJ1_pollFirst_12 : decode cJ1_pollFirst 12 = .ok (.invokestatic 103, 3) := dk_184 0 103 (dk_at dksJ1_pollFirst_0 12 rfl rfl)
theorem dJ1_pollFirst_15 : decode cJ1_pollFirst 15 = .ok (.astore_n 3, 1) := dk_78 (dk_at dksJ1_pollFirst_0 15 rfl rfl)
theorem dJ1_pollFirst_16 : decode cJ1_pollFirst 16 = .ok (.aload_n 3, 1) := dk_45 (dk_at dksJ1_pollFirst_0 16 rfl rfl)
theorem dJ1_pollFirst_17 : decode cJ1_pollFirst 17 = .ok (.ifnull 17, 3) := dk_198 0 17 (dk_at dksJ1_pollFirst_0 17 rfl rfl)
theorem dJ1_pollFirst_20 : decode cJ1_pollFirst 20 = .ok (.aload_n 1, 1) := dk_43 (dk_at dksJ1_pollFirst_0 20 rfl rfl)
theorem dJ1_pollFirst_21 : decode cJ1_pollFirst 21 = .ok (.iload_n 2, 1) := dk_28 (dk_at dksJ1_pollFirst_0 21 rfl rfl)
theorem dJ1_pollFirst_22 : decode cJ1_pollFirst 22 = .ok (.aconst_null, 1) := dk_1 (dk_at dksJ1_pollFirst_0 22 rfl rfl)
theorem dJ1_pollFirst_23 : decode cJ1_pollFirst 23 = .ok (.aastore, 1) := dk_83 (dk_at dksJ1_pollFirst_0 23 rfl rfl)
theorem dJ1_pollFirst_24 : decode cJ1_pollFirst 24 = .ok (.aload_n 0, 1) := dk_42 (dk_at dksJ1_pollFirst_1 0 rfl rfl)
theorem dJ1_pollFirst_25 : decode cJ1_pollFirst 25 = .ok (.iload_n 2, 1) := dk_28 (dk_at dksJ1_pollFirst_1 1 rfl rfl)
theorem dJ1_pollFirst_26 : decode cJ1_pollFirst 26 = .ok (.aload_n 1, 1) := dk_43 (dk_at dksJ1_pollFirst_1 2 rfl rfl)
theorem dJ1_pollFirst_27 : decode cJ1_pollFirst 27 = .ok (.arraylength, 1) := dk_190 (dk_at dksJ1_pollFirst_1 3 rfl rfl)
theorem dJ1_pollFirst_28 : decode cJ1_pollFirst 28 = .ok (.invokestatic 74, 3) := dk_184 0 74 (dk_at dksJ1_pollFirst_1 4 rfl rfl)
theorem dJ1_pollFirst_31 : decode cJ1_pollFirst 31 = .ok (.putfield 24, 3) := dk_181 0 24 (dk_at dksJ1_pollFirst_1 7 rfl rfl)
theorem dJ1_pollFirst_34 : decode cJ1_pollFirst 34 = .ok (.aload_n 3, 1) := dk_45 (dk_at dksJ1_pollFirst_1 10 rfl rfl)
theorem dJ1_pollFirst_35 : decode cJ1_pollFirst 35 = .ok (.areturn, 1) := dk_176 (dk_at dksJ1_pollFirst_1 11 rfl rfl)
abbrev cJ1_elementAt : ByteArray := prog_48_method_10_code
def yJ1_elementAt : MethodName := ⟨RJ1, "elementAt", "([Ljava/lang/Object;I)Ljava/lang/Object;"⟩
def dkwJ1_elementAt_0 : List UInt8 := [42, 27, 50, 176]
abbrev dktJ1_elementAt_0 : List UInt8 := dkwJ1_elementAt_0 ++ []
theorem dksJ1_elementAt_0 : cJ1_elementAt.data.toList.drop 0 = dktJ1_elementAt_0 := by decide +kernel
theorem dJ1_elementAt_0 : decode cJ1_elementAt 0 = .ok (.aload_n 0, 1) := dk_42 (dk_at dksJ1_elementAt_0 0 rfl rfl)
theorem dJ1_elementAt_1 : decode cJ1_elementAt 1 = .ok (.iload_n 1, 1) := dk_27 (dk_at dksJ1_elementAt_0 1 rfl rfl)
theorem dJ1_elementAt_2 : decode cJ1_elementAt 2 = .ok (.aaload, 1) := dk_50 (dk_at dksJ1_elementAt_0 2 rfl rfl)
theorem dJ1_elementAt_3 : decode cJ1_elementAt 3 = .ok (.areturn, 1) := dk_176 (dk_at dksJ1_elementAt_0 3 rfl rfl)
abbrev cJ1_pollLast : ByteArray := prog_48_method_21_code
def yJ1_pollLast : MethodName := ⟨RJ1, "pollLast", "()Ljava/lang/Object;"⟩
def dkwJ1_pollLast_1 : List UInt8 := [198, 0, 12, 43, 42, 28, 90, 181, 0, 20, 1, 83, 45, 176]
abbrev dktJ1_pollLast_1 : List UInt8 := dkwJ1_pollLast_1 ++ []
def dkwJ1_pollLast_0 : List UInt8 := [42, 180, 0, 3, 89, 76, 42, 180, 0, 20, 43, 190, 184, 0, 68, 89, 61, 184, 0, 103, 78, 45]
abbrev dktJ1_pollLast_0 : List UInt8 := dkwJ1_pollLast_0 ++ dktJ1_pollLast_1
theorem dksJ1_pollLast_0 : cJ1_pollLast.data.toList.drop 0 = dktJ1_pollLast_0 := by decide +kernel
theorem dksJ1_pollLast_1 : cJ1_pollLast.data.toList.drop 22 = dktJ1_pollLast_1 := dk_seg dksJ1_pollLast_0 22 rfl rfl
theorem dJ1_pollLast_0 : decode cJ1_pollLast 0 = .ok (.aload_n 0, 1) := dk_42 (dk_at dksJ1_pollLast_0 0 rfl rfl)
theorem dJ1_pollLast_1 : decode cJ1_pollLast 1 = .ok (.getfield 3, 3) := dk_180 0 3 (dk_at dksJ1_pollLast_0 1 rfl rfl)
theorem dJ1_pollLast_4 : decode cJ1_pollLast 4 = .ok (.dup, 1) := dk_89 (dk_at dksJ1_pollLast_0 4 rfl rfl)
theorem dJ1_pollLast_5 : decode cJ1_pollLast 5 = .ok (.astore_n 1, 1) := dk_76 (dk_at dksJ1_pollLast_0 5 rfl rfl)
theorem dJ1_pollLast_6 : decode cJ1_pollLast 6 = .ok (.aload_n 0, 1) := dk_42 (dk_at dksJ1_pollLast_0 6 rfl rfl)
theorem dJ1_pollLast_7 : decode cJ1_pollLast 7 = .ok (.getfield 20, 3) := dk_180 0 20 (dk_at dksJ1_pollLast_0 7 rfl rfl)
theorem dJ1_pollLast_10 : decode cJ1_pollLast 10 = .ok (.aload_n 1, 1) := dk_43 (dk_at dksJ1_pollLast_0 10 rfl rfl)
theorem dJ1_pollLast_11 : decode cJ1_pollLast 11 = .ok (.arraylength, 1) := dk_190 (dk_at dksJ1_pollLast_0 11 rfl rfl)
theorem dJ1_pollLast_12 : decode cJ1_pollLast 12 = .ok (.invokestatic 68, 3) := dk_184 0 68 (dk_at dksJ1_pollLast_0 12 rfl rfl)
theorem dJ1_pollLast_15 : decode cJ1_pollLast 15 = .ok (.dup, 1) := dk_89 (dk_at dksJ1_pollLast_0 15 rfl rfl)
theorem dJ1_pollLast_16 : decode cJ1_pollLast 16 = .ok (.istore_n 2, 1) := dk_61 (dk_at dksJ1_pollLast_0 16 rfl rfl)
theorem dJ1_pollLast_17 : decode cJ1_pollLast 17 = .ok (.invokestatic 103, 3) := dk_184 0 103 (dk_at dksJ1_pollLast_0 17 rfl rfl)
theorem dJ1_pollLast_20 : decode cJ1_pollLast 20 = .ok (.astore_n 3, 1) := dk_78 (dk_at dksJ1_pollLast_0 20 rfl rfl)
theorem dJ1_pollLast_21 : decode cJ1_pollLast 21 = .ok (.aload_n 3, 1) := dk_45 (dk_at dksJ1_pollLast_0 21 rfl rfl)
theorem dJ1_pollLast_22 : decode cJ1_pollLast 22 = .ok (.ifnull 12, 3) := dk_198 0 12 (dk_at dksJ1_pollLast_1 0 rfl rfl)
theorem dJ1_pollLast_25 : decode cJ1_pollLast 25 = .ok (.aload_n 1, 1) := dk_43 (dk_at dksJ1_pollLast_1 3 rfl rfl)
theorem dJ1_pollLast_26 : decode cJ1_pollLast 26 = .ok (.aload_n 0, 1) := dk_42 (dk_at dksJ1_pollLast_1 4 rfl rfl)
theorem dJ1_pollLast_27 : decode cJ1_pollLast 27 = .ok (.iload_n 2, 1) := dk_28 (dk_at dksJ1_pollLast_1 5 rfl rfl)
theorem dJ1_pollLast_28 : decode cJ1_pollLast 28 = .ok (.dup_x1, 1) := dk_90 (dk_at dksJ1_pollLast_1 6 rfl rfl)
theorem dJ1_pollLast_29 : decode cJ1_pollLast 29 = .ok (.putfield 20, 3) := dk_181 0 20 (dk_at dksJ1_pollLast_1 7 rfl rfl)
theorem dJ1_pollLast_32 : decode cJ1_pollLast 32 = .ok (.aconst_null, 1) := dk_1 (dk_at dksJ1_pollLast_1 10 rfl rfl)
theorem dJ1_pollLast_33 : decode cJ1_pollLast 33 = .ok (.aastore, 1) := dk_83 (dk_at dksJ1_pollLast_1 11 rfl rfl)
theorem dJ1_pollLast_34 : decode cJ1_pollLast 34 = .ok (.aload_n 3, 1) := dk_45 (dk_at dksJ1_pollLast_1 12 rfl rfl)
theorem dJ1_pollLast_35 : decode cJ1_pollLast 35 = .ok (.areturn, 1) := dk_176 (dk_at dksJ1_pollLast_1 13 rfl rfl)
abbrev cJ1_dec : ByteArray := prog_48_method_7_code
def yJ1_dec : MethodName := ⟨RJ1, "dec", "(II)I"⟩
def dkwJ1_dec_0 : List UInt8 := [132, 0, 255, 26, 156, 0, 7, 27, 4, 100, 59, 26, 172]
abbrev dktJ1_dec_0 : List UInt8 := dkwJ1_dec_0 ++ []
theorem dksJ1_dec_0 : cJ1_dec.data.toList.drop 0 = dktJ1_dec_0 := by decide +kernel
theorem dJ1_dec_0 : decode cJ1_dec 0 = .ok (.iinc 0 (-1), 3) := dk_132 0 255 (dk_at dksJ1_dec_0 0 rfl rfl)
theorem dJ1_dec_3 : decode cJ1_dec 3 = .ok (.iload_n 0, 1) := dk_26 (dk_at dksJ1_dec_0 3 rfl rfl)
theorem dJ1_dec_4 : decode cJ1_dec 4 = .ok (.ifCond .ge 7, 3) := dk_156 0 7 (dk_at dksJ1_dec_0 4 rfl rfl)
theorem dJ1_dec_7 : decode cJ1_dec 7 = .ok (.iload_n 1, 1) := dk_27 (dk_at dksJ1_dec_0 7 rfl rfl)
theorem dJ1_dec_8 : decode cJ1_dec 8 = .ok (.iconst 1, 1) := dk_4 (dk_at dksJ1_dec_0 8 rfl rfl)
theorem dJ1_dec_9 : decode cJ1_dec 9 = .ok (.isub, 1) := dk_100 (dk_at dksJ1_dec_0 9 rfl rfl)
theorem dJ1_dec_10 : decode cJ1_dec 10 = .ok (.istore_n 0, 1) := dk_59 (dk_at dksJ1_dec_0 10 rfl rfl)
theorem dJ1_dec_11 : decode cJ1_dec 11 = .ok (.iload_n 0, 1) := dk_26 (dk_at dksJ1_dec_0 11 rfl rfl)
theorem dJ1_dec_12 : decode cJ1_dec 12 = .ok (.ireturn, 1) := dk_172 (dk_at dksJ1_dec_0 12 rfl rfl)
abbrev cJ3_init : ByteArray := prog_53_method_7_code
def yJ3_init : MethodName := ⟨RJ3, "<init>", "()V"⟩
def dkwJ3_init_0 : List UInt8 := [42, 183, 0, 43, 42, 18, 92, 181, 0, 81, 177]
abbrev dktJ3_init_0 : List UInt8 := dkwJ3_init_0 ++ []
theorem dksJ3_init_0 : cJ3_init.data.toList.drop 0 = dktJ3_init_0 := by decide +kernel
theorem dJ3_init_0 : decode cJ3_init 0 = .ok (.aload_n 0, 1) := dk_42 (dk_at dksJ3_init_0 0 rfl rfl)
theorem dJ3_init_1 : decode cJ3_init 1 = .ok (.invokespecial 43, 3) := dk_183 0 43 (dk_at dksJ3_init_0 1 rfl rfl)
theorem dJ3_init_4 : decode cJ3_init 4 = .ok (.aload_n 0, 1) := dk_42 (dk_at dksJ3_init_0 4 rfl rfl)
theorem dJ3_init_5 : decode cJ3_init 5 = .ok (.ldc 92, 2) := dk_18 92 (dk_at dksJ3_init_0 5 rfl rfl)
theorem dJ3_init_7 : decode cJ3_init 7 = .ok (.putfield 81, 3) := dk_181 0 81 (dk_at dksJ3_init_0 7 rfl rfl)
theorem dJ3_init_10 : decode cJ3_init 10 = .ok (.return_, 1) := dk_177 (dk_at dksJ3_init_0 10 rfl rfl)
abbrev cJ3_containsKey : ByteArray := prog_53_method_14_code
def yJ3_containsKey : MethodName := ⟨RJ3, "containsKey", "(Ljava/lang/Object;)Z"⟩
def dkwJ3_containsKey_0 : List UInt8 := [42, 43, 182, 0, 158, 198, 0, 7, 4, 167, 0, 4, 3, 172]
abbrev dktJ3_containsKey_0 : List UInt8 := dkwJ3_containsKey_0 ++ []
theorem dksJ3_containsKey_0 : cJ3_containsKey.data.toList.drop 0 = dktJ3_containsKey_0 := by decide +kernel
theorem dJ3_containsKey_0 : decode cJ3_containsKey 0 = .ok (.aload_n 0, 1) := dk_42 (dk_at dksJ3_containsKey_0 0 rfl rfl)
theorem dJ3_containsKey_1 : decode cJ3_containsKey 1 = .ok (.aload_n 1, 1) := dk_43 (dk_at dksJ3_containsKey_0 1 rfl rfl)
theorem dJ3_containsKey_2 : decode cJ3_containsKey 2 = .ok (.invokevirtual 158, 3) := dk_182 0 158 (dk_at dksJ3_containsKey_0 2 rfl rfl)
theorem dJ3_containsKey_5 : decode cJ3_containsKey 5 = .ok (.ifnull 7, 3) := dk_198 0 7 (dk_at dksJ3_containsKey_0 5 rfl rfl)
theorem dJ3_containsKey_8 : decode cJ3_containsKey 8 = .ok (.iconst 1, 1) := dk_4 (dk_at dksJ3_containsKey_0 8 rfl rfl)
theorem dJ3_containsKey_9 : decode cJ3_containsKey 9 = .ok (.goto 4, 3) := dk_167 0 4 (dk_at dksJ3_containsKey_0 9 rfl rfl)
theorem dJ3_containsKey_12 : decode cJ3_containsKey 12 = .ok (.iconst 0, 1) := dk_3 (dk_at dksJ3_containsKey_0 12 rfl rfl)
theorem dJ3_containsKey_13 : decode cJ3_containsKey 13 = .ok (.ireturn, 1) := dk_172 (dk_at dksJ3_containsKey_0 13 rfl rfl)
abbrev cJ3_getNode : ByteArray := prog_53_method_13_code
def yJ3_getNode : MethodName := ⟨RJ3, "getNode", "(Ljava/lang/Object;)Ljava/util/HashMap$Node;"⟩
def dkwJ3_getNode_6 : List UInt8 := [89, 58, 4, 199, 255, 210, 1, 176]
abbrev dktJ3_getNode_6 : List UInt8 := dkwJ3_getNode_6 ++ []
def dkwJ3_getNode_5 : List UInt8 := [165, 0, 16, 43, 198, 0, 15, 43, 25, 7, 182, 0, 173, 153, 0, 6, 25, 4, 176, 25, 4, 180, 0, 177]
abbrev dktJ3_getNode_5 : List UInt8 := dkwJ3_getNode_5 ++ dktJ3_getNode_6
def dkwJ3_getNode_4 : List UInt8 := [43, 182, 0, 182, 176, 25, 4, 180, 0, 168, 21, 6, 160, 0, 31, 25, 4, 180, 0, 170, 89, 58, 7, 43]
abbrev dktJ3_getNode_4 : List UInt8 := dkwJ3_getNode_4 ++ dktJ3_getNode_5
def dkwJ3_getNode_3 : List UInt8 := [176, 45, 180, 0, 177, 89, 58, 4, 198, 0, 70, 45, 193, 0, 180, 153, 0, 14, 45, 192, 0, 180, 21, 6]
abbrev dktJ3_getNode_3 : List UInt8 := dkwJ3_getNode_3 ++ dktJ3_getNode_4
def dkwJ3_getNode_2 : List UInt8 := [180, 0, 170, 89, 58, 7, 43, 165, 0, 16, 43, 198, 0, 14, 43, 25, 7, 182, 0, 173, 153, 0, 5, 45]
abbrev dktJ3_getNode_2 : List UInt8 := dkwJ3_getNode_2 ++ dktJ3_getNode_3
def dkwJ3_getNode_1 : List UInt8 := [184, 0, 149, 89, 54, 6, 126, 50, 89, 78, 198, 0, 115, 45, 180, 0, 168, 21, 6, 160, 0, 29, 45]
abbrev dktJ3_getNode_1 : List UInt8 := dkwJ3_getNode_1 ++ dktJ3_getNode_2
def dkwJ3_getNode_0 : List UInt8 := [42, 180, 0, 105, 89, 77, 198, 0, 142, 44, 190, 89, 54, 5, 158, 0, 134, 44, 21, 5, 4, 100, 43]
abbrev dktJ3_getNode_0 : List UInt8 := dkwJ3_getNode_0 ++ dktJ3_getNode_1
theorem dksJ3_getNode_0 : cJ3_getNode.data.toList.drop 0 = dktJ3_getNode_0 := by decide +kernel
theorem dksJ3_getNode_1 : cJ3_getNode.data.toList.drop 23 = dktJ3_getNode_1 := dk_seg dksJ3_getNode_0 23 rfl rfl
theorem dksJ3_getNode_2 : cJ3_getNode.data.toList.drop 46 = dktJ3_getNode_2 := dk_seg dksJ3_getNode_1 23 rfl rfl
theorem dksJ3_getNode_3 : cJ3_getNode.data.toList.drop 70 = dktJ3_getNode_3 := dk_seg dksJ3_getNode_2 24 rfl rfl
theorem dksJ3_getNode_4 : cJ3_getNode.data.toList.drop 94 = dktJ3_getNode_4 := dk_seg dksJ3_getNode_3 24 rfl rfl
theorem dksJ3_getNode_5 : cJ3_getNode.data.toList.drop 118 = dktJ3_getNode_5 := dk_seg dksJ3_getNode_4 24 rfl rfl
theorem dksJ3_getNode_6 : cJ3_getNode.data.toList.drop 142 = dktJ3_getNode_6 := dk_seg dksJ3_getNode_5 24 rfl rfl
theorem dJ3_getNode_0 : decode cJ3_getNode 0 = .ok (.aload_n 0, 1) := dk_42 (dk_at dksJ3_getNode_0 0 rfl rfl)
theorem dJ3_getNode_1 : decode cJ3_getNode 1 = .ok (.getfield 105, 3) := dk_180 0 105 (dk_at dksJ3_getNode_0 1 rfl rfl)
theorem dJ3_getNode_4 : decode cJ3_getNode 4 = .ok (.dup, 1) := dk_89 (dk_at dksJ3_getNode_0 4 rfl rfl)
theorem dJ3_getNode_5 : decode cJ3_getNode 5 = .ok (.astore_n 2, 1) := dk_77 (dk_at dksJ3_getNode_0 5 rfl rfl)
theorem dJ3_getNode_6 : decode cJ3_getNode 6 = .ok (.ifnull 142, 3) := dk_198 0 142 (dk_at dksJ3_getNode_0 6 rfl rfl)
theorem dJ3_getNode_9 : decode cJ3_getNode 9 = .ok (.aload_n 2, 1) := dk_44 (dk_at dksJ3_getNode_0 9 rfl rfl)
theorem dJ3_getNode_10 : decode cJ3_getNode 10 = .ok (.arraylength, 1) := dk_190 (dk_at dksJ3_getNode_0 10 rfl rfl)
theorem dJ3_getNode_11 : decode cJ3_getNode 11 = .ok (.dup, 1) := dk_89 (dk_at dksJ3_getNode_0 11 rfl rfl)
theorem dJ3_getNode_12 : decode cJ3_getNode 12 = .ok (.istore 5, 2) := dk_54 5 (dk_at dksJ3_getNode_0 12 rfl rfl)
theorem dJ3_getNode_14 : decode cJ3_getNode 14 = .ok (.ifCond .le 134, 3) := dk_158 0 134 (dk_at dksJ3_getNode_0 14 rfl rfl)
theorem dJ3_getNode_17 : decode cJ3_getNode 17 = .ok (.aload_n 2, 1) := dk_44 (dk_at dksJ3_getNode_0 17 rfl rfl)
theorem dJ3_getNode_18 : decode cJ3_getNode 18 = .ok (.iload 5, 2) := dk_21 5 (dk_at dksJ3_getNode_0 18 rfl rfl)
theorem dJ3_getNode_20 : decode cJ3_getNode 20 = .ok (.iconst 1, 1) := dk_4 (dk_at dksJ3_getNode_0 20 rfl rfl)
theorem dJ3_getNode_21 : decode cJ3_getNode 21 = .ok (.isub, 1) := dk_100 (dk_at dksJ3_getNode_0 21 rfl rfl)
theorem dJ3_getNode_22 : decode cJ3_getNode 22 = .ok (.aload_n 1, 1) := dk_43 (dk_at dksJ3_getNode_0 22 rfl rfl)
theorem dJ3_getNode_23 : decode cJ3_getNode 23 = .ok (.invokestatic 149, 3) := dk_184 0 149 (dk_at dksJ3_getNode_1 0 rfl rfl)
theorem dJ3_getNode_26 : decode cJ3_getNode 26 = .ok (.dup, 1) := dk_89 (dk_at dksJ3_getNode_1 3 rfl rfl)
theorem dJ3_getNode_27 : decode cJ3_getNode 27 = .ok (.istore 6, 2) := dk_54 6 (dk_at dksJ3_getNode_1 4 rfl rfl)
theorem dJ3_getNode_29 : decode cJ3_getNode 29 = .ok (.iand, 1) := dk_126 (dk_at dksJ3_getNode_1 6 rfl rfl)
theorem dJ3_getNode_30 : decode cJ3_getNode 30 = .ok (.aaload, 1) := dk_50 (dk_at dksJ3_getNode_1 7 rfl rfl)
theorem dJ3_getNode_31 : decode cJ3_getNode 31 = .ok (.dup, 1) := dk_89 (dk_at dksJ3_getNode_1 8 rfl rfl)
theorem dJ3_getNode_32 : decode cJ3_getNode 32 = .ok (.astore_n 3, 1) := dk_78 (dk_at dksJ3_getNode_1 9 rfl rfl)
theorem dJ3_getNode_33 : decode cJ3_getNode 33 = .ok (.ifnull 115, 3) := dk_198 0 115 (dk_at dksJ3_getNode_1 10 rfl rfl)
theorem dJ3_getNode_36 : decode cJ3_getNode 36 = .ok (.aload_n 3, 1) := dk_45 (dk_at dksJ3_getNode_1 13 rfl rfl)
theorem dJ3_getNode_37 : decode cJ3_getNode 37 = .ok (.getfield 168, 3) := dk_180 0 168 (dk_at dksJ3_getNode_1 14 rfl rfl)
theorem dJ3_getNode_40 : decode cJ3_getNode 40 = .ok (.iload 6, 2) := dk_21 6 (dk_at dksJ3_getNode_1 17 rfl rfl)
theorem dJ3_getNode_42 : decode cJ3_getNode 42 = .ok (.if_icmp .ne 29, 3) := dk_160 0 29 (dk_at dksJ3_getNode_1 19 rfl rfl)
theorem dJ3_getNode_45 : decode cJ3_getNode 45 = .ok (.aload_n 3, 1) := dk_45 (dk_at dksJ3_getNode_1 22 rfl rfl)
theorem dJ3_getNode_46 : decode cJ3_getNode 46 = .ok (.getfield 170, 3) := dk_180 0 170 (dk_at dksJ3_getNode_2 0 rfl rfl)
theorem dJ3_getNode_49 : decode cJ3_getNode 49 = .ok (.dup, 1) := dk_89 (dk_at dksJ3_getNode_2 3 rfl rfl)
theorem dJ3_getNode_50 : decode cJ3_getNode 50 = .ok (.astore 7, 2) := dk_58 7 (dk_at dksJ3_getNode_2 4 rfl rfl)
theorem dJ3_getNode_52 : decode cJ3_getNode 52 = .ok (.aload_n 1, 1) := dk_43 (dk_at dksJ3_getNode_2 6 rfl rfl)
theorem dJ3_getNode_53 : decode cJ3_getNode 53 = .ok (.if_acmp .eq 16, 3) := dk_165 0 16 (dk_at dksJ3_getNode_2 7 rfl rfl)
theorem dJ3_getNode_56 : decode cJ3_getNode 56 = .ok (.aload_n 1, 1) := dk_43 (dk_at dksJ3_getNode_2 10 rfl rfl)
theorem dJ3_getNode_57 : decode cJ3_getNode 57 = .ok (.ifnull 14, 3) := dk_198 0 14 (dk_at dksJ3_getNode_2 11 rfl rfl)
theorem dJ3_getNode_60 : decode cJ3_getNode 60 = .ok (.aload_n 1, 1) := dk_43 (dk_at dksJ3_getNode_2 14 rfl rfl)
theorem dJ3_getNode_61 : decode cJ3_getNode 61 = .ok (.aload 7, 2) := dk_25 7 (dk_at dksJ3_getNode_2 15 rfl rfl)
theorem dJ3_getNode_63 : decode cJ3_getNode 63 = .ok (.invokevirtual 173, 3) := dk_182 0 173 (dk_at dksJ3_getNode_2 17 rfl rfl)
theorem dJ3_getNode_66 : decode cJ3_getNode 66 = .ok (.ifCond .eq 5, 3) := dk_153 0 5 (dk_at dksJ3_getNode_2 20 rfl rfl)
theorem dJ3_getNode_69 : decode cJ3_getNode 69 = .ok (.aload_n 3, 1) := dk_45 (dk_at dksJ3_getNode_2 23 rfl rfl)
theorem dJ3_getNode_70 : decode cJ3_getNode 70 = .ok (.areturn, 1) := dk_176 (dk_at dksJ3_getNode_3 0 rfl rfl)
theorem dJ3_getNode_71 : decode cJ3_getNode 71 = .ok (.aload_n 3, 1) := dk_45 (dk_at dksJ3_getNode_3 1 rfl rfl)
theorem dJ3_getNode_72 : decode cJ3_getNode 72 = .ok (.getfield 177, 3) := dk_180 0 177 (dk_at dksJ3_getNode_3 2 rfl rfl)
theorem dJ3_getNode_75 : decode cJ3_getNode 75 = .ok (.dup, 1) := dk_89 (dk_at dksJ3_getNode_3 5 rfl rfl)
theorem dJ3_getNode_76 : decode cJ3_getNode 76 = .ok (.astore 4, 2) := dk_58 4 (dk_at dksJ3_getNode_3 6 rfl rfl)
theorem dJ3_getNode_78 : decode cJ3_getNode 78 = .ok (.ifnull 70, 3) := dk_198 0 70 (dk_at dksJ3_getNode_3 8 rfl rfl)
theorem dJ3_getNode_81 : decode cJ3_getNode 81 = .ok (.aload_n 3, 1) := dk_45 (dk_at dksJ3_getNode_3 11 rfl rfl)
theorem dJ3_getNode_82 : decode cJ3_getNode 82 = .ok (.instanceof 180, 3) := dk_193 0 180 (dk_at dksJ3_getNode_3 12 rfl rfl)
theorem dJ3_getNode_85 : decode cJ3_getNode 85 = .ok (.ifCond .eq 14, 3) := dk_153 0 14 (dk_at dksJ3_getNode_3 15 rfl rfl)
theorem dJ3_getNode_88 : decode cJ3_getNode 88 = .ok (.aload_n 3, 1) := dk_45 (dk_at dksJ3_getNode_3 18 rfl rfl)
theorem dJ3_getNode_89 : decode cJ3_getNode 89 = .ok (.checkcast 180, 3) := dk_192 0 180 (dk_at dksJ3_getNode_3 19 rfl rfl)
theorem dJ3_getNode_92 : decode cJ3_getNode 92 = .ok (.iload 6, 2) := dk_21 6 (dk_at dksJ3_getNode_3 22 rfl rfl)
theorem dJ3_getNode_94 : decode cJ3_getNode 94 = .ok (.aload_n 1, 1) := dk_43 (dk_at dksJ3_getNode_4 0 rfl rfl)
theorem dJ3_getNode_95 : decode cJ3_getNode 95 = .ok (.invokevirtual 182, 3) := dk_182 0 182 (dk_at dksJ3_getNode_4 1 rfl rfl)
theorem dJ3_getNode_98 : decode cJ3_getNode 98 = .ok (.areturn, 1) := dk_176 (dk_at dksJ3_getNode_4 4 rfl rfl)
theorem dJ3_getNode_99 : decode cJ3_getNode 99 = .ok (.aload 4, 2) := dk_25 4 (dk_at dksJ3_getNode_4 5 rfl rfl)
theorem dJ3_getNode_101 : decode cJ3_getNode 101 = .ok (.getfield 168, 3) := dk_180 0 168 (dk_at dksJ3_getNode_4 7 rfl rfl)
theorem dJ3_getNode_104 : decode cJ3_getNode 104 = .ok (.iload 6, 2) := dk_21 6 (dk_at dksJ3_getNode_4 10 rfl rfl)
theorem dJ3_getNode_106 : decode cJ3_getNode 106 = .ok (.if_icmp .ne 31, 3) := dk_160 0 31 (dk_at dksJ3_getNode_4 12 rfl rfl)
theorem dJ3_getNode_109 : decode cJ3_getNode 109 = .ok (.aload 4, 2) := dk_25 4 (dk_at dksJ3_getNode_4 15 rfl rfl)
theorem dJ3_getNode_111 : decode cJ3_getNode 111 = .ok (.getfield 170, 3) := dk_180 0 170 (dk_at dksJ3_getNode_4 17 rfl rfl)
theorem dJ3_getNode_114 : decode cJ3_getNode 114 = .ok (.dup, 1) := dk_89 (dk_at dksJ3_getNode_4 20 rfl rfl)
theorem dJ3_getNode_115 : decode cJ3_getNode 115 = .ok (.astore 7, 2) := dk_58 7 (dk_at dksJ3_getNode_4 21 rfl rfl)
theorem dJ3_getNode_117 : decode cJ3_getNode 117 = .ok (.aload_n 1, 1) := dk_43 (dk_at dksJ3_getNode_4 23 rfl rfl)
theorem dJ3_getNode_118 : decode cJ3_getNode 118 = .ok (.if_acmp .eq 16, 3) := dk_165 0 16 (dk_at dksJ3_getNode_5 0 rfl rfl)
theorem dJ3_getNode_121 : decode cJ3_getNode 121 = .ok (.aload_n 1, 1) := dk_43 (dk_at dksJ3_getNode_5 3 rfl rfl)
theorem dJ3_getNode_122 : decode cJ3_getNode 122 = .ok (.ifnull 15, 3) := dk_198 0 15 (dk_at dksJ3_getNode_5 4 rfl rfl)
theorem dJ3_getNode_125 : decode cJ3_getNode 125 = .ok (.aload_n 1, 1) := dk_43 (dk_at dksJ3_getNode_5 7 rfl rfl)
theorem dJ3_getNode_126 : decode cJ3_getNode 126 = .ok (.aload 7, 2) := dk_25 7 (dk_at dksJ3_getNode_5 8 rfl rfl)
theorem dJ3_getNode_128 : decode cJ3_getNode 128 = .ok (.invokevirtual 173, 3) := dk_182 0 173 (dk_at dksJ3_getNode_5 10 rfl rfl)
theorem dJ3_getNode_131 : decode cJ3_getNode 131 = .ok (.ifCond .eq 6, 3) := dk_153 0 6 (dk_at dksJ3_getNode_5 13 rfl rfl)
theorem dJ3_getNode_134 : decode cJ3_getNode 134 = .ok (.aload 4, 2) := dk_25 4 (dk_at dksJ3_getNode_5 16 rfl rfl)
theorem dJ3_getNode_136 : decode cJ3_getNode 136 = .ok (.areturn, 1) := dk_176 (dk_at dksJ3_getNode_5 18 rfl rfl)
theorem dJ3_getNode_137 : decode cJ3_getNode 137 = .ok (.aload 4, 2) := dk_25 4 (dk_at dksJ3_getNode_5 19 rfl rfl)
theorem dJ3_getNode_139 : decode cJ3_getNode 139 = .ok (.getfield 177, 3) := dk_180 0 177 (dk_at dksJ3_getNode_5 21 rfl rfl)
theorem dJ3_getNode_142 : decode cJ3_getNode 142 = .ok (.dup, 1) := dk_89 (dk_at dksJ3_getNode_6 0 rfl rfl)
theorem dJ3_getNode_143 : decode cJ3_getNode 143 = .ok (.astore 4, 2) := dk_58 4 (dk_at dksJ3_getNode_6 1 rfl rfl)
theorem dJ3_getNode_145 : decode cJ3_getNode 145 = .ok (.ifnonnull (-46), 3) := dk_199 255 210 (dk_at dksJ3_getNode_6 3 rfl rfl)
theorem dJ3_getNode_148 : decode cJ3_getNode 148 = .ok (.aconst_null, 1) := dk_1 (dk_at dksJ3_getNode_6 6 rfl rfl)
theorem dJ3_getNode_149 : decode cJ3_getNode 149 = .ok (.areturn, 1) := dk_176 (dk_at dksJ3_getNode_6 7 rfl rfl)
abbrev cJ3_hash : ByteArray := prog_53_method_1_code
def yJ3_hash : MethodName := ⟨RJ3, "hash", "(Ljava/lang/Object;)I"⟩
def dkwJ3_hash_0 : List UInt8 := [42, 199, 0, 7, 3, 167, 0, 14, 42, 182, 0, 1, 89, 60, 27, 16, 16, 124, 130, 172]
abbrev dktJ3_hash_0 : List UInt8 := dkwJ3_hash_0 ++ []
theorem dksJ3_hash_0 : cJ3_hash.data.toList.drop 0 = dktJ3_hash_0 := by decide +kernel
theorem dJ3_hash_0 : decode cJ3_hash 0 = .ok (.aload_n 0, 1) := dk_42 (dk_at dksJ3_hash_0 0 rfl rfl)
theorem dJ3_hash_1 : decode cJ3_hash 1 = .ok (.ifnonnull 7, 3) := dk_199 0 7 (dk_at dksJ3_hash_0 1 rfl rfl)
theorem dJ3_hash_4 : decode cJ3_hash 4 = .ok (.iconst 0, 1) := dk_3 (dk_at dksJ3_hash_0 4 rfl rfl)
theorem dJ3_hash_5 : decode cJ3_hash 5 = .ok (.goto 14, 3) := dk_167 0 14 (dk_at dksJ3_hash_0 5 rfl rfl)
theorem dJ3_hash_8 : decode cJ3_hash 8 = .ok (.aload_n 0, 1) := dk_42 (dk_at dksJ3_hash_0 8 rfl rfl)
theorem dJ3_hash_9 : decode cJ3_hash 9 = .ok (.invokevirtual 1, 3) := dk_182 0 1 (dk_at dksJ3_hash_0 9 rfl rfl)
theorem dJ3_hash_12 : decode cJ3_hash 12 = .ok (.dup, 1) := dk_89 (dk_at dksJ3_hash_0 12 rfl rfl)
theorem dJ3_hash_13 : decode cJ3_hash 13 = .ok (.istore_n 1, 1) := dk_60 (dk_at dksJ3_hash_0 13 rfl rfl)
theorem dJ3_hash_14 : decode cJ3_hash 14 = .ok (.iload_n 1, 1) := dk_27 (dk_at dksJ3_hash_0 14 rfl rfl)
theorem dJ3_hash_15 : decode cJ3_hash 15 = .ok (.bipush 16, 2) := dk_16 16 (dk_at dksJ3_hash_0 15 rfl rfl)
theorem dJ3_hash_17 : decode cJ3_hash 17 = .ok (.iushr, 1) := dk_124 (dk_at dksJ3_hash_0 17 rfl rfl)
theorem dJ3_hash_18 : decode cJ3_hash 18 = .ok (.ixor, 1) := dk_130 (dk_at dksJ3_hash_0 18 rfl rfl)
theorem dJ3_hash_19 : decode cJ3_hash 19 = .ok (.ireturn, 1) := dk_172 (dk_at dksJ3_hash_0 19 rfl rfl)
abbrev cJ3_put : ByteArray := prog_53_method_15_code
def yJ3_put : MethodName := ⟨RJ3, "put", "(Ljava/lang/Object;Ljava/lang/Object;)Ljava/lang/Object;"⟩
def dkwJ3_put_0 : List UInt8 := [42, 43, 184, 0, 149, 43, 44, 3, 4, 182, 0, 152, 176]
abbrev dktJ3_put_0 : List UInt8 := dkwJ3_put_0 ++ []
theorem dksJ3_put_0 : cJ3_put.data.toList.drop 0 = dktJ3_put_0 := by decide +kernel
theorem dJ3_put_0 : decode cJ3_put 0 = .ok (.aload_n 0, 1) := dk_42 (dk_at dksJ3_put_0 0 rfl rfl)
theorem dJ3_put_1 : decode cJ3_put 1 = .ok (.aload_n 1, 1) := dk_43 (dk_at dksJ3_put_0 1 rfl rfl)
theorem dJ3_put_2 : decode cJ3_put 2 = .ok (.invokestatic 149, 3) := dk_184 0 149 (dk_at dksJ3_put_0 2 rfl rfl)
theorem dJ3_put_5 : decode cJ3_put 5 = .ok (.aload_n 1, 1) := dk_43 (dk_at dksJ3_put_0 5 rfl rfl)
theorem dJ3_put_6 : decode cJ3_put 6 = .ok (.aload_n 2, 1) := dk_44 (dk_at dksJ3_put_0 6 rfl rfl)
theorem dJ3_put_7 : decode cJ3_put 7 = .ok (.iconst 0, 1) := dk_3 (dk_at dksJ3_put_0 7 rfl rfl)
theorem dJ3_put_8 : decode cJ3_put 8 = .ok (.iconst 1, 1) := dk_4 (dk_at dksJ3_put_0 8 rfl rfl)
theorem dJ3_put_9 : decode cJ3_put 9 = .ok (.invokevirtual 152, 3) := dk_182 0 152 (dk_at dksJ3_put_0 9 rfl rfl)
theorem dJ3_put_12 : decode cJ3_put 12 = .ok (.areturn, 1) := dk_176 (dk_at dksJ3_put_0 12 rfl rfl)
abbrev cJ3_putVal : ByteArray := prog_53_method_16_code
def yJ3_putVal : MethodName := ⟨RJ3, "putVal", "(ILjava/lang/Object;Ljava/lang/Object;ZZ)Ljava/lang/Object;"⟩
def dkwJ3_putVal_12 : List UInt8 := [181, 0, 156, 42, 180, 0, 88, 164, 0, 8, 42, 182, 0, 117, 87, 42, 21, 5, 182, 0, 205, 1, 176]
abbrev dktJ3_putVal_12 : List UInt8 := dkwJ3_putVal_12 ++ []
def dkwJ3_putVal_11 : List UInt8 := [182, 0, 198, 25, 12, 176, 42, 89, 180, 0, 202, 4, 96, 181, 0, 202, 42, 89, 180, 0, 156, 4, 96, 90]
abbrev dktJ3_putVal_11 : List UInt8 := dkwJ3_putVal_11 ++ dktJ3_putVal_12
def dkwJ3_putVal_10 : List UInt8 := [180, 0, 162, 58, 12, 21, 4, 153, 0, 8, 25, 12, 199, 0, 9, 25, 10, 45, 181, 0, 162, 42, 25, 10]
abbrev dktJ3_putVal_10 : List UInt8 := dkwJ3_putVal_10 ++ dktJ3_putVal_11
def dkwJ3_putVal_9 : List UInt8 := [153, 0, 6, 167, 0, 13, 25, 10, 58, 7, 132, 12, 1, 167, 255, 171, 25, 10, 198, 0, 35, 25, 10]
abbrev dktJ3_putVal_9 : List UInt8 := dkwJ3_putVal_9 ++ dktJ3_putVal_10
def dkwJ3_putVal_8 : List UInt8 := [25, 10, 180, 0, 170, 89, 58, 11, 44, 165, 0, 29, 44, 198, 0, 15, 44, 25, 11, 182, 0, 173]
abbrev dktJ3_putVal_8 : List UInt8 := dkwJ3_putVal_8 ++ dktJ3_putVal_9
def dkwJ3_putVal_7 : List UInt8 := [16, 7, 161, 0, 60, 42, 25, 6, 27, 182, 0, 194, 167, 0, 50, 25, 10, 180, 0, 168, 27, 160, 0, 31]
abbrev dktJ3_putVal_7 : List UInt8 := dkwJ3_putVal_7 ++ dktJ3_putVal_8
def dkwJ3_putVal_6 : List UInt8 := [180, 0, 177, 89, 58, 10, 199, 0, 33, 25, 7, 42, 27, 44, 45, 1, 182, 0, 186, 181, 0, 177, 21, 12]
abbrev dktJ3_putVal_6 : List UInt8 := dkwJ3_putVal_6 ++ dktJ3_putVal_7
def dkwJ3_putVal_5 : List UInt8 := [192, 0, 180, 42, 25, 6, 27, 44, 45, 182, 0, 190, 58, 10, 167, 0, 94, 3, 54, 12, 25, 7]
abbrev dktJ3_putVal_5 : List UInt8 := dkwJ3_putVal_5 ++ dktJ3_putVal_6
def dkwJ3_putVal_4 : List UInt8 := [182, 0, 173, 153, 0, 10, 25, 7, 58, 10, 167, 0, 121, 25, 7, 193, 0, 180, 153, 0, 22, 25, 7]
abbrev dktJ3_putVal_4 : List UInt8 := dkwJ3_putVal_4 ++ dktJ3_putVal_5
def dkwJ3_putVal_3 : List UInt8 := [160, 0, 35, 25, 7, 180, 0, 170, 89, 58, 11, 44, 165, 0, 16, 44, 198, 0, 19, 44, 25, 11]
abbrev dktJ3_putVal_3 : List UInt8 := dkwJ3_putVal_3 ++ dktJ3_putVal_4
def dkwJ3_putVal_2 : List UInt8 := [25, 6, 21, 9, 42, 27, 44, 45, 1, 182, 0, 186, 83, 167, 0, 199, 25, 7, 180, 0, 168, 27]
abbrev dktJ3_putVal_2 : List UInt8 := dkwJ3_putVal_2 ++ dktJ3_putVal_3
def dkwJ3_putVal_1 : List UInt8 := [58, 6, 190, 54, 8, 25, 6, 21, 8, 4, 100, 27, 126, 89, 54, 9, 50, 89, 58, 7, 199, 0, 19]
abbrev dktJ3_putVal_1 : List UInt8 := dkwJ3_putVal_1 ++ dktJ3_putVal_2
def dkwJ3_putVal_0 : List UInt8 := [42, 180, 0, 105, 89, 58, 6, 198, 0, 12, 25, 6, 190, 89, 54, 8, 154, 0, 13, 42, 182, 0, 117, 89]
abbrev dktJ3_putVal_0 : List UInt8 := dkwJ3_putVal_0 ++ dktJ3_putVal_1
theorem dksJ3_putVal_0 : cJ3_putVal.data.toList.drop 0 = dktJ3_putVal_0 := by decide +kernel
theorem dksJ3_putVal_1 : cJ3_putVal.data.toList.drop 24 = dktJ3_putVal_1 := dk_seg dksJ3_putVal_0 24 rfl rfl
theorem dksJ3_putVal_2 : cJ3_putVal.data.toList.drop 47 = dktJ3_putVal_2 := dk_seg dksJ3_putVal_1 23 rfl rfl
theorem dksJ3_putVal_3 : cJ3_putVal.data.toList.drop 69 = dktJ3_putVal_3 := dk_seg dksJ3_putVal_2 22 rfl rfl
theorem dksJ3_putVal_4 : cJ3_putVal.data.toList.drop 91 = dktJ3_putVal_4 := dk_seg dksJ3_putVal_3 22 rfl rfl
theorem dksJ3_putVal_5 : cJ3_putVal.data.toList.drop 114 = dktJ3_putVal_5 := dk_seg dksJ3_putVal_4 23 rfl rfl
theorem dksJ3_putVal_6 : cJ3_putVal.data.toList.drop 136 = dktJ3_putVal_6 := dk_seg dksJ3_putVal_5 22 rfl rfl
theorem dksJ3_putVal_7 : cJ3_putVal.data.toList.drop 160 = dktJ3_putVal_7 := dk_seg dksJ3_putVal_6 24 rfl rfl
theorem dksJ3_putVal_8 : cJ3_putVal.data.toList.drop 184 = dktJ3_putVal_8 := dk_seg dksJ3_putVal_7 24 rfl rfl
theorem dksJ3_putVal_9 : cJ3_putVal.data.toList.drop 206 = dktJ3_putVal_9 := dk_seg dksJ3_putVal_8 22 rfl rfl
theorem dksJ3_putVal_10 : cJ3_putVal.data.toList.drop 229 = dktJ3_putVal_10 := dk_seg dksJ3_putVal_9 23 rfl rfl
theorem dksJ3_putVal_11 : cJ3_putVal.data.toList.drop 253 = dktJ3_putVal_11 := dk_seg dksJ3_putVal_10 24 rfl rfl
theorem dksJ3_putVal_12 : cJ3_putVal.data.toList.drop 277 = dktJ3_putVal_12 := dk_seg dksJ3_putVal_11 24 rfl rfl
theorem dJ3_putVal_0 : decode cJ3_putVal 0 = .ok (.aload_n 0, 1) := dk_42 (dk_at dksJ3_putVal_0 0 rfl rfl)
theorem dJ3_putVal_1 : decode cJ3_putVal 1 = .ok (.getfield 105, 3) := dk_180 0 105 (dk_at dksJ3_putVal_0 1 rfl rfl)
theorem dJ3_putVal_4 : decode cJ3_putVal 4 = .ok (.dup, 1) := dk_89 (dk_at dksJ3_putVal_0 4 rfl rfl)
theorem dJ3_putVal_5 : decode cJ3_putVal 5 = .ok (.astore 6, 2) := dk_58 6 (dk_at dksJ3_putVal_0 5 rfl rfl)
theorem dJ3_putVal_7 : decode cJ3_putVal 7 = .ok (.ifnull 12, 3) := dk_198 0 12 (dk_at dksJ3_putVal_0 7 rfl rfl)
theorem dJ3_putVal_10 : decode cJ3_putVal 10 = .ok (.aload 6, 2) := dk_25 6 (dk_at dksJ3_putVal_0 10 rfl rfl)
theorem dJ3_putVal_12 : decode cJ3_putVal 12 = .ok (.arraylength, 1) := dk_190 (dk_at dksJ3_putVal_0 12 rfl rfl)
theorem dJ3_putVal_13 : decode cJ3_putVal 13 = .ok (.dup, 1) := dk_89 (dk_at dksJ3_putVal_0 13 rfl rfl)
theorem dJ3_putVal_14 : decode cJ3_putVal 14 = .ok (.istore 8, 2) := dk_54 8 (dk_at dksJ3_putVal_0 14 rfl rfl)
theorem dJ3_putVal_16 : decode cJ3_putVal 16 = .ok (.ifCond .ne 13, 3) := dk_154 0 13 (dk_at dksJ3_putVal_0 16 rfl rfl)
theorem dJ3_putVal_19 : decode cJ3_putVal 19 = .ok (.aload_n 0, 1) := dk_42 (dk_at dksJ3_putVal_0 19 rfl rfl)
theorem dJ3_putVal_20 : decode cJ3_putVal 20 = .ok (.invokevirtual 117, 3) := dk_182 0 117 (dk_at dksJ3_putVal_0 20 rfl rfl)
theorem dJ3_putVal_23 : decode cJ3_putVal 23 = .ok (.dup, 1) := dk_89 (dk_at dksJ3_putVal_0 23 rfl rfl)
theorem dJ3_putVal_24 : decode cJ3_putVal 24 = .ok (.astore 6, 2) := dk_58 6 (dk_at dksJ3_putVal_1 0 rfl rfl)
theorem dJ3_putVal_26 : decode cJ3_putVal 26 = .ok (.arraylength, 1) := dk_190 (dk_at dksJ3_putVal_1 2 rfl rfl)
theorem dJ3_putVal_27 : decode cJ3_putVal 27 = .ok (.istore 8, 2) := dk_54 8 (dk_at dksJ3_putVal_1 3 rfl rfl)
theorem dJ3_putVal_29 : decode cJ3_putVal 29 = .ok (.aload 6, 2) := dk_25 6 (dk_at dksJ3_putVal_1 5 rfl rfl)
theorem dJ3_putVal_31 : decode cJ3_putVal 31 = .ok (.iload 8, 2) := dk_21 8 (dk_at dksJ3_putVal_1 7 rfl rfl)
theorem dJ3_putVal_33 : decode cJ3_putVal 33 = .ok (.iconst 1, 1) := dk_4 (dk_at dksJ3_putVal_1 9 rfl rfl)
theorem dJ3_putVal_34 : decode cJ3_putVal 34 = .ok (.isub, 1) := dk_100 (dk_at dksJ3_putVal_1 10 rfl rfl)
theorem dJ3_putVal_35 : decode cJ3_putVal 35 = .ok (.iload_n 1, 1) := dk_27 (dk_at dksJ3_putVal_1 11 rfl rfl)
theorem dJ3_putVal_36 : decode cJ3_putVal 36 = .ok (.iand, 1) := dk_126 (dk_at dksJ3_putVal_1 12 rfl rfl)
theorem dJ3_putVal_37 : decode cJ3_putVal 37 = .ok (.dup, 1) := dk_89 (dk_at dksJ3_putVal_1 13 rfl rfl)
theorem dJ3_putVal_38 : decode cJ3_putVal 38 = .ok (.istore 9, 2) := dk_54 9 (dk_at dksJ3_putVal_1 14 rfl rfl)
theorem dJ3_putVal_40 : decode cJ3_putVal 40 = .ok (.aaload, 1) := dk_50 (dk_at dksJ3_putVal_1 16 rfl rfl)
theorem dJ3_putVal_41 : decode cJ3_putVal 41 = .ok (.dup, 1) := dk_89 (dk_at dksJ3_putVal_1 17 rfl rfl)
theorem dJ3_putVal_42 : decode cJ3_putVal 42 = .ok (.astore 7, 2) := dk_58 7 (dk_at dksJ3_putVal_1 18 rfl rfl)
theorem dJ3_putVal_44 : decode cJ3_putVal 44 = .ok (.ifnonnull 19, 3) := dk_199 0 19 (dk_at dksJ3_putVal_1 20 rfl rfl)
theorem dJ3_putVal_47 : decode cJ3_putVal 47 = .ok (.aload 6, 2) := dk_25 6 (dk_at dksJ3_putVal_2 0 rfl rfl)
theorem dJ3_putVal_49 : decode cJ3_putVal 49 = .ok (.iload 9, 2) := dk_21 9 (dk_at dksJ3_putVal_2 2 rfl rfl)
theorem dJ3_putVal_51 : decode cJ3_putVal 51 = .ok (.aload_n 0, 1) := dk_42 (dk_at dksJ3_putVal_2 4 rfl rfl)
theorem dJ3_putVal_52 : decode cJ3_putVal 52 = .ok (.iload_n 1, 1) := dk_27 (dk_at dksJ3_putVal_2 5 rfl rfl)
theorem dJ3_putVal_53 : decode cJ3_putVal 53 = .ok (.aload_n 2, 1) := dk_44 (dk_at dksJ3_putVal_2 6 rfl rfl)
theorem dJ3_putVal_54 : decode cJ3_putVal 54 = .ok (.aload_n 3, 1) := dk_45 (dk_at dksJ3_putVal_2 7 rfl rfl)
theorem dJ3_putVal_55 : decode cJ3_putVal 55 = .ok (.aconst_null, 1) := dk_1 (dk_at dksJ3_putVal_2 8 rfl rfl)
theorem dJ3_putVal_56 : decode cJ3_putVal 56 = .ok (.invokevirtual 186, 3) := dk_182 0 186 (dk_at dksJ3_putVal_2 9 rfl rfl)
theorem dJ3_putVal_59 : decode cJ3_putVal 59 = .ok (.aastore, 1) := dk_83 (dk_at dksJ3_putVal_2 12 rfl rfl)
theorem dJ3_putVal_60 : decode cJ3_putVal 60 = .ok (.goto 199, 3) := dk_167 0 199 (dk_at dksJ3_putVal_2 13 rfl rfl)
theorem dJ3_putVal_63 : decode cJ3_putVal 63 = .ok (.aload 7, 2) := dk_25 7 (dk_at dksJ3_putVal_2 16 rfl rfl)
theorem dJ3_putVal_65 : decode cJ3_putVal 65 = .ok (.getfield 168, 3) := dk_180 0 168 (dk_at dksJ3_putVal_2 18 rfl rfl)
theorem dJ3_putVal_68 : decode cJ3_putVal 68 = .ok (.iload_n 1, 1) := dk_27 (dk_at dksJ3_putVal_2 21 rfl rfl)
theorem dJ3_putVal_69 : decode cJ3_putVal 69 = .ok (.if_icmp .ne 35, 3) := dk_160 0 35 (dk_at dksJ3_putVal_3 0 rfl rfl)
theorem dJ3_putVal_72 : decode cJ3_putVal 72 = .ok (.aload 7, 2) := dk_25 7 (dk_at dksJ3_putVal_3 3 rfl rfl)
theorem dJ3_putVal_74 : decode cJ3_putVal 74 = .ok (.getfield 170, 3) := dk_180 0 170 (dk_at dksJ3_putVal_3 5 rfl rfl)
theorem dJ3_putVal_77 : decode cJ3_putVal 77 = .ok (.dup, 1) := dk_89 (dk_at dksJ3_putVal_3 8 rfl rfl)
theorem dJ3_putVal_78 : decode cJ3_putVal 78 = .ok (.astore 11, 2) := dk_58 11 (dk_at dksJ3_putVal_3 9 rfl rfl)
theorem dJ3_putVal_80 : decode cJ3_putVal 80 = .ok (.aload_n 2, 1) := dk_44 (dk_at dksJ3_putVal_3 11 rfl rfl)
theorem dJ3_putVal_81 : decode cJ3_putVal 81 = .ok (.if_acmp .eq 16, 3) := dk_165 0 16 (dk_at dksJ3_putVal_3 12 rfl rfl)
theorem dJ3_putVal_84 : decode cJ3_putVal 84 = .ok (.aload_n 2, 1) := dk_44 (dk_at dksJ3_putVal_3 15 rfl rfl)
theorem dJ3_putVal_85 : decode cJ3_putVal 85 = .ok (.ifnull 19, 3) := dk_198 0 19 (dk_at dksJ3_putVal_3 16 rfl rfl)
theorem dJ3_putVal_88 : decode cJ3_putVal 88 = .ok (.aload_n 2, 1) := dk_44 (dk_at dksJ3_putVal_3 19 rfl rfl)
theorem dJ3_putVal_89 : decode cJ3_putVal 89 = .ok (.aload 11, 2) := dk_25 11 (dk_at dksJ3_putVal_3 20 rfl rfl)
theorem dJ3_putVal_91 : decode cJ3_putVal 91 = .ok (.invokevirtual 173, 3) := dk_182 0 173 (dk_at dksJ3_putVal_4 0 rfl rfl)
theorem dJ3_putVal_94 : decode cJ3_putVal 94 = .ok (.ifCond .eq 10, 3) := dk_153 0 10 (dk_at dksJ3_putVal_4 3 rfl rfl)
theorem dJ3_putVal_97 : decode cJ3_putVal 97 = .ok (.aload 7, 2) := dk_25 7 (dk_at dksJ3_putVal_4 6 rfl rfl)
theorem dJ3_putVal_99 : decode cJ3_putVal 99 = .ok (.astore 10, 2) := dk_58 10 (dk_at dksJ3_putVal_4 8 rfl rfl)
theorem dJ3_putVal_101 : decode cJ3_putVal 101 = .ok (.goto 121, 3) := dk_167 0 121 (dk_at dksJ3_putVal_4 10 rfl rfl)
theorem dJ3_putVal_104 : decode cJ3_putVal 104 = .ok (.aload 7, 2) := dk_25 7 (dk_at dksJ3_putVal_4 13 rfl rfl)
theorem dJ3_putVal_106 : decode cJ3_putVal 106 = .ok (.instanceof 180, 3) := dk_193 0 180 (dk_at dksJ3_putVal_4 15 rfl rfl)
theorem dJ3_putVal_109 : decode cJ3_putVal 109 = .ok (.ifCond .eq 22, 3) := dk_153 0 22 (dk_at dksJ3_putVal_4 18 rfl rfl)
theorem dJ3_putVal_112 : decode cJ3_putVal 112 = .ok (.aload 7, 2) := dk_25 7 (dk_at dksJ3_putVal_4 21 rfl rfl)
theorem dJ3_putVal_114 : decode cJ3_putVal 114 = .ok (.checkcast 180, 3) := dk_192 0 180 (dk_at dksJ3_putVal_5 0 rfl rfl)
theorem dJ3_putVal_117 : decode cJ3_putVal 117 = .ok (.aload_n 0, 1) := dk_42 (dk_at dksJ3_putVal_5 3 rfl rfl)
theorem dJ3_putVal_118 : decode cJ3_putVal 118 = .ok (.aload 6, 2) := dk_25 6 (dk_at dksJ3_putVal_5 4 rfl rfl)
theorem dJ3_putVal_120 : decode cJ3_putVal 120 = .ok (.iload_n 1, 1) := dk_27 (dk_at dksJ3_putVal_5 6 rfl rfl)
theorem dJ3_putVal_121 : decode cJ3_putVal 121 = .ok (.aload_n 2, 1) := dk_44 (dk_at dksJ3_putVal_5 7 rfl rfl)
theorem dJ3_putVal_122 : decode cJ3_putVal 122 = .ok (.aload_n 3, 1) := dk_45 (dk_at dksJ3_putVal_5 8 rfl rfl)
theorem dJ3_putVal_123 : decode cJ3_putVal 123 = .ok (.invokevirtual 190, 3) := dk_182 0 190 (dk_at dksJ3_putVal_5 9 rfl rfl)
theorem dJ3_putVal_126 : decode cJ3_putVal 126 = .ok (.astore 10, 2) := dk_58 10 (dk_at dksJ3_putVal_5 12 rfl rfl)
theorem dJ3_putVal_128 : decode cJ3_putVal 128 = .ok (.goto 94, 3) := dk_167 0 94 (dk_at dksJ3_putVal_5 14 rfl rfl)
theorem dJ3_putVal_131 : decode cJ3_putVal 131 = .ok (.iconst 0, 1) := dk_3 (dk_at dksJ3_putVal_5 17 rfl rfl)
theorem dJ3_putVal_132 : decode cJ3_putVal 132 = .ok (.istore 12, 2) := dk_54 12 (dk_at dksJ3_putVal_5 18 rfl rfl)
theorem dJ3_putVal_134 : decode cJ3_putVal 134 = .ok (.aload 7, 2) := dk_25 7 (dk_at dksJ3_putVal_5 20 rfl rfl)
theorem dJ3_putVal_136 : decode cJ3_putVal 136 = .ok (.getfield 177, 3) := dk_180 0 177 (dk_at dksJ3_putVal_6 0 rfl rfl)
theorem dJ3_putVal_139 : decode cJ3_putVal 139 = .ok (.dup, 1) := dk_89 (dk_at dksJ3_putVal_6 3 rfl rfl)
theorem dJ3_putVal_140 : decode cJ3_putVal 140 = .ok (.astore 10, 2) := dk_58 10 (dk_at dksJ3_putVal_6 4 rfl rfl)
theorem dJ3_putVal_142 : decode cJ3_putVal 142 = .ok (.ifnonnull 33, 3) := dk_199 0 33 (dk_at dksJ3_putVal_6 6 rfl rfl)
theorem dJ3_putVal_145 : decode cJ3_putVal 145 = .ok (.aload 7, 2) := dk_25 7 (dk_at dksJ3_putVal_6 9 rfl rfl)
theorem dJ3_putVal_147 : decode cJ3_putVal 147 = .ok (.aload_n 0, 1) := dk_42 (dk_at dksJ3_putVal_6 11 rfl rfl)
theorem dJ3_putVal_148 : decode cJ3_putVal 148 = .ok (.iload_n 1, 1) := dk_27 (dk_at dksJ3_putVal_6 12 rfl rfl)
theorem dJ3_putVal_149 : decode cJ3_putVal 149 = .ok (.aload_n 2, 1) := dk_44 (dk_at dksJ3_putVal_6 13 rfl rfl)
theorem dJ3_putVal_150 : decode cJ3_putVal 150 = .ok (.aload_n 3, 1) := dk_45 (dk_at dksJ3_putVal_6 14 rfl rfl)
theorem dJ3_putVal_151 : decode cJ3_putVal 151 = .ok (.aconst_null, 1) := dk_1 (dk_at dksJ3_putVal_6 15 rfl rfl)
theorem dJ3_putVal_152 : decode cJ3_putVal 152 = .ok (.invokevirtual 186, 3) := dk_182 0 186 (dk_at dksJ3_putVal_6 16 rfl rfl)
theorem dJ3_putVal_155 : decode cJ3_putVal 155 = .ok (.putfield 177, 3) := dk_181 0 177 (dk_at dksJ3_putVal_6 19 rfl rfl)
theorem dJ3_putVal_158 : decode cJ3_putVal 158 = .ok (.iload 12, 2) := dk_21 12 (dk_at dksJ3_putVal_6 22 rfl rfl)
theorem dJ3_putVal_160 : decode cJ3_putVal 160 = .ok (.bipush 7, 2) := dk_16 7 (dk_at dksJ3_putVal_7 0 rfl rfl)
theorem dJ3_putVal_162 : decode cJ3_putVal 162 = .ok (.if_icmp .lt 60, 3) := dk_161 0 60 (dk_at dksJ3_putVal_7 2 rfl rfl)
theorem dJ3_putVal_165 : decode cJ3_putVal 165 = .ok (.aload_n 0, 1) := dk_42 (dk_at dksJ3_putVal_7 5 rfl rfl)
theorem dJ3_putVal_166 : decode cJ3_putVal 166 = .ok (.aload 6, 2) := dk_25 6 (dk_at dksJ3_putVal_7 6 rfl rfl)
theorem dJ3_putVal_168 : decode cJ3_putVal 168 = .ok (.iload_n 1, 1) := dk_27 (dk_at dksJ3_putVal_7 8 rfl rfl)
theorem dJ3_putVal_169 : decode cJ3_putVal 169 = .ok (.invokevirtual 194, 3) := dk_182 0 194 (dk_at dksJ3_putVal_7 9 rfl rfl)
theorem dJ3_putVal_172 : decode cJ3_putVal 172 = .ok (.goto 50, 3) := dk_167 0 50 (dk_at dksJ3_putVal_7 12 rfl rfl)
theorem dJ3_putVal_175 : decode cJ3_putVal 175 = .ok (.aload 10, 2) := dk_25 10 (dk_at dksJ3_putVal_7 15 rfl rfl)
theorem dJ3_putVal_177 : decode cJ3_putVal 177 = .ok (.getfield 168, 3) := dk_180 0 168 (dk_at dksJ3_putVal_7 17 rfl rfl)
theorem dJ3_putVal_180 : decode cJ3_putVal 180 = .ok (.iload_n 1, 1) := dk_27 (dk_at dksJ3_putVal_7 20 rfl rfl)
theorem dJ3_putVal_181 : decode cJ3_putVal 181 = .ok (.if_icmp .ne 31, 3) := dk_160 0 31 (dk_at dksJ3_putVal_7 21 rfl rfl)
theorem dJ3_putVal_184 : decode cJ3_putVal 184 = .ok (.aload 10, 2) := dk_25 10 (dk_at dksJ3_putVal_8 0 rfl rfl)
theorem dJ3_putVal_186 : decode cJ3_putVal 186 = .ok (.getfield 170, 3) := dk_180 0 170 (dk_at dksJ3_putVal_8 2 rfl rfl)
theorem dJ3_putVal_189 : decode cJ3_putVal 189 = .ok (.dup, 1) := dk_89 (dk_at dksJ3_putVal_8 5 rfl rfl)
theorem dJ3_putVal_190 : decode cJ3_putVal 190 = .ok (.astore 11, 2) := dk_58 11 (dk_at dksJ3_putVal_8 6 rfl rfl)
theorem dJ3_putVal_192 : decode cJ3_putVal 192 = .ok (.aload_n 2, 1) := dk_44 (dk_at dksJ3_putVal_8 8 rfl rfl)
theorem dJ3_putVal_193 : decode cJ3_putVal 193 = .ok (.if_acmp .eq 29, 3) := dk_165 0 29 (dk_at dksJ3_putVal_8 9 rfl rfl)
theorem dJ3_putVal_196 : decode cJ3_putVal 196 = .ok (.aload_n 2, 1) := dk_44 (dk_at dksJ3_putVal_8 12 rfl rfl)
theorem dJ3_putVal_197 : decode cJ3_putVal 197 = .ok (.ifnull 15, 3) := dk_198 0 15 (dk_at dksJ3_putVal_8 13 rfl rfl)
theorem dJ3_putVal_200 : decode cJ3_putVal 200 = .ok (.aload_n 2, 1) := dk_44 (dk_at dksJ3_putVal_8 16 rfl rfl)
theorem dJ3_putVal_201 : decode cJ3_putVal 201 = .ok (.aload 11, 2) := dk_25 11 (dk_at dksJ3_putVal_8 17 rfl rfl)
theorem dJ3_putVal_203 : decode cJ3_putVal 203 = .ok (.invokevirtual 173, 3) := dk_182 0 173 (dk_at dksJ3_putVal_8 19 rfl rfl)
theorem dJ3_putVal_206 : decode cJ3_putVal 206 = .ok (.ifCond .eq 6, 3) := dk_153 0 6 (dk_at dksJ3_putVal_9 0 rfl rfl)
theorem dJ3_putVal_209 : decode cJ3_putVal 209 = .ok (.goto 13, 3) := dk_167 0 13 (dk_at dksJ3_putVal_9 3 rfl rfl)
theorem dJ3_putVal_212 : decode cJ3_putVal 212 = .ok (.aload 10, 2) := dk_25 10 (dk_at dksJ3_putVal_9 6 rfl rfl)
theorem dJ3_putVal_214 : decode cJ3_putVal 214 = .ok (.astore 7, 2) := dk_58 7 (dk_at dksJ3_putVal_9 8 rfl rfl)
theorem dJ3_putVal_216 : decode cJ3_putVal 216 = .ok (.iinc 12 1, 3) := dk_132 12 1 (dk_at dksJ3_putVal_9 10 rfl rfl)
theorem dJ3_putVal_219 : decode cJ3_putVal 219 = .ok (.goto (-85), 3) := dk_167 255 171 (dk_at dksJ3_putVal_9 13 rfl rfl)
theorem dJ3_putVal_222 : decode cJ3_putVal 222 = .ok (.aload 10, 2) := dk_25 10 (dk_at dksJ3_putVal_9 16 rfl rfl)
theorem dJ3_putVal_224 : decode cJ3_putVal 224 = .ok (.ifnull 35, 3) := dk_198 0 35 (dk_at dksJ3_putVal_9 18 rfl rfl)
theorem dJ3_putVal_227 : decode cJ3_putVal 227 = .ok (.aload 10, 2) := dk_25 10 (dk_at dksJ3_putVal_9 21 rfl rfl)
theorem dJ3_putVal_229 : decode cJ3_putVal 229 = .ok (.getfield 162, 3) := dk_180 0 162 (dk_at dksJ3_putVal_10 0 rfl rfl)
theorem dJ3_putVal_232 : decode cJ3_putVal 232 = .ok (.astore 12, 2) := dk_58 12 (dk_at dksJ3_putVal_10 3 rfl rfl)
theorem dJ3_putVal_234 : decode cJ3_putVal 234 = .ok (.iload 4, 2) := dk_21 4 (dk_at dksJ3_putVal_10 5 rfl rfl)
theorem dJ3_putVal_236 : decode cJ3_putVal 236 = .ok (.ifCond .eq 8, 3) := dk_153 0 8 (dk_at dksJ3_putVal_10 7 rfl rfl)
theorem dJ3_putVal_239 : decode cJ3_putVal 239 = .ok (.aload 12, 2) := dk_25 12 (dk_at dksJ3_putVal_10 10 rfl rfl)
theorem dJ3_putVal_241 : decode cJ3_putVal 241 = .ok (.ifnonnull 9, 3) := dk_199 0 9 (dk_at dksJ3_putVal_10 12 rfl rfl)
theorem dJ3_putVal_244 : decode cJ3_putVal 244 = .ok (.aload 10, 2) := dk_25 10 (dk_at dksJ3_putVal_10 15 rfl rfl)
theorem dJ3_putVal_246 : decode cJ3_putVal 246 = .ok (.aload_n 3, 1) := dk_45 (dk_at dksJ3_putVal_10 17 rfl rfl)
theorem dJ3_putVal_247 : decode cJ3_putVal 247 = .ok (.putfield 162, 3) := dk_181 0 162 (dk_at dksJ3_putVal_10 18 rfl rfl)
theorem dJ3_putVal_250 : decode cJ3_putVal 250 = .ok (.aload_n 0, 1) := dk_42 (dk_at dksJ3_putVal_10 21 rfl rfl)
theorem dJ3_putVal_251 : decode cJ3_putVal 251 = .ok (.aload 10, 2) := dk_25 10 (dk_at dksJ3_putVal_10 22 rfl rfl)
theorem dJ3_putVal_253 : decode cJ3_putVal 253 = .ok (.invokevirtual 198, 3) := dk_182 0 198 (dk_at dksJ3_putVal_11 0 rfl rfl)
theorem dJ3_putVal_256 : decode cJ3_putVal 256 = .ok (.aload 12, 2) := dk_25 12 (dk_at dksJ3_putVal_11 3 rfl rfl)
theorem dJ3_putVal_258 : decode cJ3_putVal 258 = .ok (.areturn, 1) := dk_176 (dk_at dksJ3_putVal_11 5 rfl rfl)
theorem dJ3_putVal_259 : decode cJ3_putVal 259 = .ok (.aload_n 0, 1) := dk_42 (dk_at dksJ3_putVal_11 6 rfl rfl)
theorem dJ3_putVal_260 : decode cJ3_putVal 260 = .ok (.dup, 1) := dk_89 (dk_at dksJ3_putVal_11 7 rfl rfl)
theorem dJ3_putVal_261 : decode cJ3_putVal 261 = .ok (.getfield 202, 3) := dk_180 0 202 (dk_at dksJ3_putVal_11 8 rfl rfl)
theorem dJ3_putVal_264 : decode cJ3_putVal 264 = .ok (.iconst 1, 1) := dk_4 (dk_at dksJ3_putVal_11 11 rfl rfl)
theorem dJ3_putVal_265 : decode cJ3_putVal 265 = .ok (.iadd, 1) := dk_96 (dk_at dksJ3_putVal_11 12 rfl rfl)
theorem dJ3_putVal_266 : decode cJ3_putVal 266 = .ok (.putfield 202, 3) := dk_181 0 202 (dk_at dksJ3_putVal_11 13 rfl rfl)
theorem dJ3_putVal_269 : decode cJ3_putVal 269 = .ok (.aload_n 0, 1) := dk_42 (dk_at dksJ3_putVal_11 16 rfl rfl)
theorem dJ3_putVal_270 : decode cJ3_putVal 270 = .ok (.dup, 1) := dk_89 (dk_at dksJ3_putVal_11 17 rfl rfl)
theorem dJ3_putVal_271 : decode cJ3_putVal 271 = .ok (.getfield 156, 3) := dk_180 0 156 (dk_at dksJ3_putVal_11 18 rfl rfl)
theorem dJ3_putVal_274 : decode cJ3_putVal 274 = .ok (.iconst 1, 1) := dk_4 (dk_at dksJ3_putVal_11 21 rfl rfl)
theorem dJ3_putVal_275 : decode cJ3_putVal 275 = .ok (.iadd, 1) := dk_96 (dk_at dksJ3_putVal_11 22 rfl rfl)
theorem dJ3_putVal_276 : decode cJ3_putVal 276 = .ok (.dup_x1, 1) := dk_90 (dk_at dksJ3_putVal_11 23 rfl rfl)
theorem dJ3_putVal_277 : decode cJ3_putVal 277 = .ok (.putfield 156, 3) := dk_181 0 156 (dk_at dksJ3_putVal_12 0 rfl rfl)
theorem dJ3_putVal_280 : decode cJ3_putVal 280 = .ok (.aload_n 0, 1) := dk_42 (dk_at dksJ3_putVal_12 3 rfl rfl)
theorem dJ3_putVal_281 : decode cJ3_putVal 281 = .ok (.getfield 88, 3) := dk_180 0 88 (dk_at dksJ3_putVal_12 4 rfl rfl)
theorem dJ3_putVal_284 : decode cJ3_putVal 284 = .ok (.if_icmp .le 8, 3) := dk_164 0 8 (dk_at dksJ3_putVal_12 7 rfl rfl)
theorem dJ3_putVal_287 : decode cJ3_putVal 287 = .ok (.aload_n 0, 1) := dk_42 (dk_at dksJ3_putVal_12 10 rfl rfl)
theorem dJ3_putVal_288 : decode cJ3_putVal 288 = .ok (.invokevirtual 117, 3) := dk_182 0 117 (dk_at dksJ3_putVal_12 11 rfl rfl)
theorem dJ3_putVal_291 : decode cJ3_putVal 291 = .ok (.pop, 1) := dk_87 (dk_at dksJ3_putVal_12 14 rfl rfl)
theorem dJ3_putVal_292 : decode cJ3_putVal 292 = .ok (.aload_n 0, 1) := dk_42 (dk_at dksJ3_putVal_12 15 rfl rfl)
theorem dJ3_putVal_293 : decode cJ3_putVal 293 = .ok (.iload 5, 2) := dk_21 5 (dk_at dksJ3_putVal_12 16 rfl rfl)
theorem dJ3_putVal_295 : decode cJ3_putVal 295 = .ok (.invokevirtual 205, 3) := dk_182 0 205 (dk_at dksJ3_putVal_12 18 rfl rfl)
theorem dJ3_putVal_298 : decode cJ3_putVal 298 = .ok (.aconst_null, 1) := dk_1 (dk_at dksJ3_putVal_12 21 rfl rfl)
theorem dJ3_putVal_299 : decode cJ3_putVal 299 = .ok (.areturn, 1) := dk_176 (dk_at dksJ3_putVal_12 22 rfl rfl)
abbrev cJ3_resize : ByteArray := prog_53_method_17_code
def yJ3_resize : MethodName := ⟨RJ3, "resize", "()[Ljava/util/HashMap$Node;"⟩
def dkwJ3_resize_15 : List UInt8 := [25, 6, 176]
abbrev dktJ3_resize_15 : List UInt8 := dkwJ3_resize_15 ++ []
def dkwJ3_resize_14 : List UInt8 := [198, 0, 18, 25, 12, 1, 181, 0, 177, 25, 6, 21, 7, 28, 96, 25, 11, 83, 132, 7, 1, 167, 255, 57]
abbrev dktJ3_resize_14 : List UInt8 := dkwJ3_resize_14 ++ dktJ3_resize_15
def dkwJ3_resize_13 : List UInt8 := [199, 255, 185, 25, 10, 198, 0, 16, 25, 10, 1, 181, 0, 177, 25, 6, 21, 7, 25, 9, 83, 25, 12]
abbrev dktJ3_resize_13 : List UInt8 := dkwJ3_resize_13 ++ dktJ3_resize_14
def dkwJ3_resize_12 : List UInt8 := [25, 8, 58, 11, 167, 0, 10, 25, 12, 25, 8, 181, 0, 177, 25, 8, 58, 12, 25, 13, 89, 58, 8]
abbrev dktJ3_resize_12 : List UInt8 := dkwJ3_resize_12 ++ dktJ3_resize_13
def dkwJ3_resize_11 : List UInt8 := [58, 9, 167, 0, 10, 25, 10, 25, 8, 181, 0, 177, 25, 8, 58, 10, 167, 0, 26, 25, 12, 199, 0, 10]
abbrev dktJ3_resize_11 : List UInt8 := dkwJ3_resize_11 ++ dktJ3_resize_12
def dkwJ3_resize_10 : List UInt8 := [25, 8, 180, 0, 177, 58, 13, 25, 8, 180, 0, 168, 28, 126, 154, 0, 29, 25, 10, 199, 0, 10, 25, 8]
abbrev dktJ3_resize_10 : List UInt8 := dkwJ3_resize_10 ++ dktJ3_resize_11
def dkwJ3_resize_9 : List UInt8 := [42, 25, 6, 21, 7, 28, 182, 0, 211, 167, 0, 127, 1, 58, 9, 1, 58, 10, 1, 58, 11, 1, 58, 12]
abbrev dktJ3_resize_9 : List UInt8 := dkwJ3_resize_9 ++ dktJ3_resize_10
def dkwJ3_resize_8 : List UInt8 := [21, 4, 4, 100, 126, 25, 8, 83, 167, 0, 152, 25, 8, 193, 0, 180, 153, 0, 20, 25, 8, 192, 0, 180]
abbrev dktJ3_resize_8 : List UInt8 := dkwJ3_resize_8 ++ dktJ3_resize_9
def dkwJ3_resize_7 : List UInt8 := [198, 0, 183, 43, 21, 7, 1, 83, 25, 8, 180, 0, 177, 199, 0, 21, 25, 6, 25, 8, 180, 0, 168]
abbrev dktJ3_resize_7 : List UInt8 := dkwJ3_resize_7 ++ dktJ3_resize_8
def dkwJ3_resize_6 : List UInt8 := [181, 0, 105, 43, 198, 0, 208, 3, 54, 7, 21, 7, 28, 162, 0, 199, 43, 21, 7, 50, 89, 58, 8]
abbrev dktJ3_resize_6 : List UInt8 := dkwJ3_resize_6 ++ dktJ3_resize_7
def dkwJ3_resize_5 : List UInt8 := [167, 0, 5, 18, 209, 54, 5, 42, 21, 5, 181, 0, 88, 21, 4, 189, 0, 163, 58, 6, 42, 25, 6]
abbrev dktJ3_resize_5 : List UInt8 := dkwJ3_resize_5 ++ dktJ3_resize_6
def dkwJ3_resize_4 : List UInt8 := [180, 0, 81, 106, 56, 6, 21, 4, 18, 42, 162, 0, 17, 23, 6, 18, 210, 150, 156, 0, 9, 23, 6, 139]
abbrev dktJ3_resize_4 : List UInt8 := dkwJ3_resize_4 ++ dktJ3_resize_5
def dkwJ3_resize_3 : List UInt8 := [54, 4, 167, 0, 11, 16, 16, 54, 4, 16, 12, 54, 5, 21, 5, 154, 0, 38, 21, 4, 134, 42]
abbrev dktJ3_resize_3 : List UInt8 := dkwJ3_resize_3 ++ dktJ3_resize_4
def dkwJ3_resize_2 : List UInt8 := [18, 42, 162, 0, 35, 28, 16, 16, 161, 0, 29, 29, 4, 120, 54, 5, 167, 0, 21, 29, 158, 0, 9, 29]
abbrev dktJ3_resize_2 : List UInt8 := dkwJ3_resize_2 ++ dktJ3_resize_3
def dkwJ3_resize_1 : List UInt8 := [28, 158, 0, 42, 28, 18, 42, 161, 0, 11, 42, 18, 209, 181, 0, 88, 43, 176, 28, 4, 120, 89, 54, 4]
abbrev dktJ3_resize_1 : List UInt8 := dkwJ3_resize_1 ++ dktJ3_resize_2
def dkwJ3_resize_0 : List UInt8 := [42, 180, 0, 105, 76, 43, 199, 0, 7, 3, 167, 0, 5, 43, 190, 61, 42, 180, 0, 88, 62, 3, 54, 5]
abbrev dktJ3_resize_0 : List UInt8 := dkwJ3_resize_0 ++ dktJ3_resize_1
theorem dksJ3_resize_0 : cJ3_resize.data.toList.drop 0 = dktJ3_resize_0 := by decide +kernel
theorem dksJ3_resize_1 : cJ3_resize.data.toList.drop 24 = dktJ3_resize_1 := dk_seg dksJ3_resize_0 24 rfl rfl
theorem dksJ3_resize_2 : cJ3_resize.data.toList.drop 48 = dktJ3_resize_2 := dk_seg dksJ3_resize_1 24 rfl rfl
theorem dksJ3_resize_3 : cJ3_resize.data.toList.drop 72 = dktJ3_resize_3 := dk_seg dksJ3_resize_2 24 rfl rfl
theorem dksJ3_resize_4 : cJ3_resize.data.toList.drop 94 = dktJ3_resize_4 := dk_seg dksJ3_resize_3 22 rfl rfl
theorem dksJ3_resize_5 : cJ3_resize.data.toList.drop 118 = dktJ3_resize_5 := dk_seg dksJ3_resize_4 24 rfl rfl
theorem dksJ3_resize_6 : cJ3_resize.data.toList.drop 141 = dktJ3_resize_6 := dk_seg dksJ3_resize_5 23 rfl rfl
theorem dksJ3_resize_7 : cJ3_resize.data.toList.drop 164 = dktJ3_resize_7 := dk_seg dksJ3_resize_6 23 rfl rfl
theorem dksJ3_resize_8 : cJ3_resize.data.toList.drop 187 = dktJ3_resize_8 := dk_seg dksJ3_resize_7 23 rfl rfl
theorem dksJ3_resize_9 : cJ3_resize.data.toList.drop 211 = dktJ3_resize_9 := dk_seg dksJ3_resize_8 24 rfl rfl
theorem dksJ3_resize_10 : cJ3_resize.data.toList.drop 235 = dktJ3_resize_10 := dk_seg dksJ3_resize_9 24 rfl rfl
theorem dksJ3_resize_11 : cJ3_resize.data.toList.drop 259 = dktJ3_resize_11 := dk_seg dksJ3_resize_10 24 rfl rfl
theorem dksJ3_resize_12 : cJ3_resize.data.toList.drop 283 = dktJ3_resize_12 := dk_seg dksJ3_resize_11 24 rfl rfl
theorem dksJ3_resize_13 : cJ3_resize.data.toList.drop 306 = dktJ3_resize_13 := dk_seg dksJ3_resize_12 23 rfl rfl
theorem dksJ3_resize_14 : cJ3_resize.data.toList.drop 329 = dktJ3_resize_14 := dk_seg dksJ3_resize_13 23 rfl rfl
theorem dksJ3_resize_15 : cJ3_resize.data.toList.drop 353 = dktJ3_resize_15 := dk_seg dksJ3_resize_14 24 rfl rfl
theorem dJ3_resize_0 : decode cJ3_resize 0 = .ok (.aload_n 0, 1) := dk_42 (dk_at dksJ3_resize_0 0 rfl rfl)
theorem dJ3_resize_1 : decode cJ3_resize 1 = .ok (.getfield 105, 3) := dk_180 0 105 (dk_at dksJ3_resize_0 1 rfl rfl)
theorem dJ3_resize_4 : decode cJ3_resize 4 = .ok (.astore_n 1, 1) := dk_76 (dk_at dksJ3_resize_0 4 rfl rfl)
theorem dJ3_resize_5 : decode cJ3_resize 5 = .ok (.aload_n 1, 1) := dk_43 (dk_at dksJ3_resize_0 5 rfl rfl)
theorem dJ3_resize_6 : decode cJ3_resize 6 = .ok (.ifnonnull 7, 3) := dk_199 0 7 (dk_at dksJ3_resize_0 6 rfl rfl)
theorem dJ3_resize_9 : decode cJ3_resize 9 = .ok (.iconst 0, 1) := dk_3 (dk_at dksJ3_resize_0 9 rfl rfl)
theorem dJ3_resize_10 : decode cJ3_resize 10 = .ok (.goto 5, 3) := dk_167 0 5 (dk_at dksJ3_resize_0 10 rfl rfl)
theorem dJ3_resize_13 : decode cJ3_resize 13 = .ok (.aload_n 1, 1) := dk_43 (dk_at dksJ3_resize_0 13 rfl rfl)
theorem dJ3_resize_14 : decode cJ3_resize 14 = .ok (.arraylength, 1) := dk_190 (dk_at dksJ3_resize_0 14 rfl rfl)
theorem dJ3_resize_15 : decode cJ3_resize 15 = .ok (.istore_n 2, 1) := dk_61 (dk_at dksJ3_resize_0 15 rfl rfl)
theorem dJ3_resize_16 : decode cJ3_resize 16 = .ok (.aload_n 0, 1) := dk_42 (dk_at dksJ3_resize_0 16 rfl rfl)
theorem dJ3_resize_17 : decode cJ3_resize 17 = .ok (.getfield 88, 3) := dk_180 0 88 (dk_at dksJ3_resize_0 17 rfl rfl)
theorem dJ3_resize_20 : decode cJ3_resize 20 = .ok (.istore_n 3, 1) := dk_62 (dk_at dksJ3_resize_0 20 rfl rfl)
theorem dJ3_resize_21 : decode cJ3_resize 21 = .ok (.iconst 0, 1) := dk_3 (dk_at dksJ3_resize_0 21 rfl rfl)
theorem dJ3_resize_22 : decode cJ3_resize 22 = .ok (.istore 5, 2) := dk_54 5 (dk_at dksJ3_resize_0 22 rfl rfl)
theorem dJ3_resize_24 : decode cJ3_resize 24 = .ok (.iload_n 2, 1) := dk_28 (dk_at dksJ3_resize_1 0 rfl rfl)
theorem dJ3_resize_25 : decode cJ3_resize 25 = .ok (.ifCond .le 42, 3) := dk_158 0 42 (dk_at dksJ3_resize_1 1 rfl rfl)
theorem dJ3_resize_28 : decode cJ3_resize 28 = .ok (.iload_n 2, 1) := dk_28 (dk_at dksJ3_resize_1 4 rfl rfl)
theorem dJ3_resize_29 : decode cJ3_resize 29 = .ok (.ldc 42, 2) := dk_18 42 (dk_at dksJ3_resize_1 5 rfl rfl)
theorem dJ3_resize_31 : decode cJ3_resize 31 = .ok (.if_icmp .lt 11, 3) := dk_161 0 11 (dk_at dksJ3_resize_1 7 rfl rfl)
theorem dJ3_resize_34 : decode cJ3_resize 34 = .ok (.aload_n 0, 1) := dk_42 (dk_at dksJ3_resize_1 10 rfl rfl)
theorem dJ3_resize_35 : decode cJ3_resize 35 = .ok (.ldc 209, 2) := dk_18 209 (dk_at dksJ3_resize_1 11 rfl rfl)
theorem dJ3_resize_37 : decode cJ3_resize 37 = .ok (.putfield 88, 3) := dk_181 0 88 (dk_at dksJ3_resize_1 13 rfl rfl)
theorem dJ3_resize_40 : decode cJ3_resize 40 = .ok (.aload_n 1, 1) := dk_43 (dk_at dksJ3_resize_1 16 rfl rfl)
theorem dJ3_resize_41 : decode cJ3_resize 41 = .ok (.areturn, 1) := dk_176 (dk_at dksJ3_resize_1 17 rfl rfl)
theorem dJ3_resize_42 : decode cJ3_resize 42 = .ok (.iload_n 2, 1) := dk_28 (dk_at dksJ3_resize_1 18 rfl rfl)
theorem dJ3_resize_43 : decode cJ3_resize 43 = .ok (.iconst 1, 1) := dk_4 (dk_at dksJ3_resize_1 19 rfl rfl)
theorem dJ3_resize_44 : decode cJ3_resize 44 = .ok (.ishl, 1) := dk_120 (dk_at dksJ3_resize_1 20 rfl rfl)
theorem dJ3_resize_45 : decode cJ3_resize 45 = .ok (.dup, 1) := dk_89 (dk_at dksJ3_resize_1 21 rfl rfl)
theorem dJ3_resize_46 : decode cJ3_resize 46 = .ok (.istore 4, 2) := dk_54 4 (dk_at dksJ3_resize_1 22 rfl rfl)
theorem dJ3_resize_48 : decode cJ3_resize 48 = .ok (.ldc 42, 2) := dk_18 42 (dk_at dksJ3_resize_2 0 rfl rfl)
theorem dJ3_resize_50 : decode cJ3_resize 50 = .ok (.if_icmp .ge 35, 3) := dk_162 0 35 (dk_at dksJ3_resize_2 2 rfl rfl)
theorem dJ3_resize_53 : decode cJ3_resize 53 = .ok (.iload_n 2, 1) := dk_28 (dk_at dksJ3_resize_2 5 rfl rfl)
theorem dJ3_resize_54 : decode cJ3_resize 54 = .ok (.bipush 16, 2) := dk_16 16 (dk_at dksJ3_resize_2 6 rfl rfl)
theorem dJ3_resize_56 : decode cJ3_resize 56 = .ok (.if_icmp .lt 29, 3) := dk_161 0 29 (dk_at dksJ3_resize_2 8 rfl rfl)
theorem dJ3_resize_59 : decode cJ3_resize 59 = .ok (.iload_n 3, 1) := dk_29 (dk_at dksJ3_resize_2 11 rfl rfl)
theorem dJ3_resize_60 : decode cJ3_resize 60 = .ok (.iconst 1, 1) := dk_4 (dk_at dksJ3_resize_2 12 rfl rfl)
theorem dJ3_resize_61 : decode cJ3_resize 61 = .ok (.ishl, 1) := dk_120 (dk_at dksJ3_resize_2 13 rfl rfl)
theorem dJ3_resize_62 : decode cJ3_resize 62 = .ok (.istore 5, 2) := dk_54 5 (dk_at dksJ3_resize_2 14 rfl rfl)
theorem dJ3_resize_64 : decode cJ3_resize 64 = .ok (.goto 21, 3) := dk_167 0 21 (dk_at dksJ3_resize_2 16 rfl rfl)
theorem dJ3_resize_67 : decode cJ3_resize 67 = .ok (.iload_n 3, 1) := dk_29 (dk_at dksJ3_resize_2 19 rfl rfl)
theorem dJ3_resize_68 : decode cJ3_resize 68 = .ok (.ifCond .le 9, 3) := dk_158 0 9 (dk_at dksJ3_resize_2 20 rfl rfl)
theorem dJ3_resize_71 : decode cJ3_resize 71 = .ok (.iload_n 3, 1) := dk_29 (dk_at dksJ3_resize_2 23 rfl rfl)
theorem dJ3_resize_72 : decode cJ3_resize 72 = .ok (.istore 4, 2) := dk_54 4 (dk_at dksJ3_resize_3 0 rfl rfl)
theorem dJ3_resize_74 : decode cJ3_resize 74 = .ok (.goto 11, 3) := dk_167 0 11 (dk_at dksJ3_resize_3 2 rfl rfl)
theorem dJ3_resize_77 : decode cJ3_resize 77 = .ok (.bipush 16, 2) := dk_16 16 (dk_at dksJ3_resize_3 5 rfl rfl)
theorem dJ3_resize_79 : decode cJ3_resize 79 = .ok (.istore 4, 2) := dk_54 4 (dk_at dksJ3_resize_3 7 rfl rfl)
theorem dJ3_resize_81 : decode cJ3_resize 81 = .ok (.bipush 12, 2) := dk_16 12 (dk_at dksJ3_resize_3 9 rfl rfl)
theorem dJ3_resize_83 : decode cJ3_resize 83 = .ok (.istore 5, 2) := dk_54 5 (dk_at dksJ3_resize_3 11 rfl rfl)
theorem dJ3_resize_85 : decode cJ3_resize 85 = .ok (.iload 5, 2) := dk_21 5 (dk_at dksJ3_resize_3 13 rfl rfl)
theorem dJ3_resize_87 : decode cJ3_resize 87 = .ok (.ifCond .ne 38, 3) := dk_154 0 38 (dk_at dksJ3_resize_3 15 rfl rfl)
theorem dJ3_resize_90 : decode cJ3_resize 90 = .ok (.iload 4, 2) := dk_21 4 (dk_at dksJ3_resize_3 18 rfl rfl)
theorem dJ3_resize_92 : decode cJ3_resize 92 = .ok (.i2f, 1) := dk_134 (dk_at dksJ3_resize_3 20 rfl rfl)
theorem dJ3_resize_93 : decode cJ3_resize 93 = .ok (.aload_n 0, 1) := dk_42 (dk_at dksJ3_resize_3 21 rfl rfl)
theorem dJ3_resize_94 : decode cJ3_resize 94 = .ok (.getfield 81, 3) := dk_180 0 81 (dk_at dksJ3_resize_4 0 rfl rfl)
theorem dJ3_resize_97 : decode cJ3_resize 97 = .ok (.fmul, 1) := dk_106 (dk_at dksJ3_resize_4 3 rfl rfl)
theorem dJ3_resize_98 : decode cJ3_resize 98 = .ok (.fstore 6, 2) := dk_56 6 (dk_at dksJ3_resize_4 4 rfl rfl)
theorem dJ3_resize_100 : decode cJ3_resize 100 = .ok (.iload 4, 2) := dk_21 4 (dk_at dksJ3_resize_4 6 rfl rfl)
theorem dJ3_resize_102 : decode cJ3_resize 102 = .ok (.ldc 42, 2) := dk_18 42 (dk_at dksJ3_resize_4 8 rfl rfl)
theorem dJ3_resize_104 : decode cJ3_resize 104 = .ok (.if_icmp .ge 17, 3) := dk_162 0 17 (dk_at dksJ3_resize_4 10 rfl rfl)
theorem dJ3_resize_107 : decode cJ3_resize 107 = .ok (.fload 6, 2) := dk_23 6 (dk_at dksJ3_resize_4 13 rfl rfl)
theorem dJ3_resize_109 : decode cJ3_resize 109 = .ok (.ldc 210, 2) := dk_18 210 (dk_at dksJ3_resize_4 15 rfl rfl)
theorem dJ3_resize_111 : decode cJ3_resize 111 = .ok (.fcmp .g, 1) := dk_150 (dk_at dksJ3_resize_4 17 rfl rfl)
theorem dJ3_resize_112 : decode cJ3_resize 112 = .ok (.ifCond .ge 9, 3) := dk_156 0 9 (dk_at dksJ3_resize_4 18 rfl rfl)
theorem dJ3_resize_115 : decode cJ3_resize 115 = .ok (.fload 6, 2) := dk_23 6 (dk_at dksJ3_resize_4 21 rfl rfl)
theorem dJ3_resize_117 : decode cJ3_resize 117 = .ok (.f2i, 1) := dk_139 (dk_at dksJ3_resize_4 23 rfl rfl)
theorem dJ3_resize_118 : decode cJ3_resize 118 = .ok (.goto 5, 3) := dk_167 0 5 (dk_at dksJ3_resize_5 0 rfl rfl)
theorem dJ3_resize_121 : decode cJ3_resize 121 = .ok (.ldc 209, 2) := dk_18 209 (dk_at dksJ3_resize_5 3 rfl rfl)
theorem dJ3_resize_123 : decode cJ3_resize 123 = .ok (.istore 5, 2) := dk_54 5 (dk_at dksJ3_resize_5 5 rfl rfl)
theorem dJ3_resize_125 : decode cJ3_resize 125 = .ok (.aload_n 0, 1) := dk_42 (dk_at dksJ3_resize_5 7 rfl rfl)
theorem dJ3_resize_126 : decode cJ3_resize 126 = .ok (.iload 5, 2) := dk_21 5 (dk_at dksJ3_resize_5 8 rfl rfl)
theorem dJ3_resize_128 : decode cJ3_resize 128 = .ok (.putfield 88, 3) := dk_181 0 88 (dk_at dksJ3_resize_5 10 rfl rfl)
theorem dJ3_resize_131 : decode cJ3_resize 131 = .ok (.iload 4, 2) := dk_21 4 (dk_at dksJ3_resize_5 13 rfl rfl)
theorem dJ3_resize_133 : decode cJ3_resize 133 = .ok (.anewarray 163, 3) := dk_189 0 163 (dk_at dksJ3_resize_5 15 rfl rfl)
theorem dJ3_resize_136 : decode cJ3_resize 136 = .ok (.astore 6, 2) := dk_58 6 (dk_at dksJ3_resize_5 18 rfl rfl)
theorem dJ3_resize_138 : decode cJ3_resize 138 = .ok (.aload_n 0, 1) := dk_42 (dk_at dksJ3_resize_5 20 rfl rfl)
theorem dJ3_resize_139 : decode cJ3_resize 139 = .ok (.aload 6, 2) := dk_25 6 (dk_at dksJ3_resize_5 21 rfl rfl)
theorem dJ3_resize_141 : decode cJ3_resize 141 = .ok (.putfield 105, 3) := dk_181 0 105 (dk_at dksJ3_resize_6 0 rfl rfl)
theorem dJ3_resize_144 : decode cJ3_resize 144 = .ok (.aload_n 1, 1) := dk_43 (dk_at dksJ3_resize_6 3 rfl rfl)
theorem dJ3_resize_145 : decode cJ3_resize 145 = .ok (.ifnull 208, 3) := dk_198 0 208 (dk_at dksJ3_resize_6 4 rfl rfl)
theorem dJ3_resize_148 : decode cJ3_resize 148 = .ok (.iconst 0, 1) := dk_3 (dk_at dksJ3_resize_6 7 rfl rfl)
theorem dJ3_resize_149 : decode cJ3_resize 149 = .ok (.istore 7, 2) := dk_54 7 (dk_at dksJ3_resize_6 8 rfl rfl)
theorem dJ3_resize_151 : decode cJ3_resize 151 = .ok (.iload 7, 2) := dk_21 7 (dk_at dksJ3_resize_6 10 rfl rfl)
theorem dJ3_resize_153 : decode cJ3_resize 153 = .ok (.iload_n 2, 1) := dk_28 (dk_at dksJ3_resize_6 12 rfl rfl)
theorem dJ3_resize_154 : decode cJ3_resize 154 = .ok (.if_icmp .ge 199, 3) := dk_162 0 199 (dk_at dksJ3_resize_6 13 rfl rfl)
theorem dJ3_resize_157 : decode cJ3_resize 157 = .ok (.aload_n 1, 1) := dk_43 (dk_at dksJ3_resize_6 16 rfl rfl)
theorem dJ3_resize_158 : decode cJ3_resize 158 = .ok (.iload 7, 2) := dk_21 7 (dk_at dksJ3_resize_6 17 rfl rfl)
theorem dJ3_resize_160 : decode cJ3_resize 160 = .ok (.aaload, 1) := dk_50 (dk_at dksJ3_resize_6 19 rfl rfl)
theorem dJ3_resize_161 : decode cJ3_resize 161 = .ok (.dup, 1) := dk_89 (dk_at dksJ3_resize_6 20 rfl rfl)
theorem dJ3_resize_162 : decode cJ3_resize 162 = .ok (.astore 8, 2) := dk_58 8 (dk_at dksJ3_resize_6 21 rfl rfl)
theorem dJ3_resize_164 : decode cJ3_resize 164 = .ok (.ifnull 183, 3) := dk_198 0 183 (dk_at dksJ3_resize_7 0 rfl rfl)
theorem dJ3_resize_167 : decode cJ3_resize 167 = .ok (.aload_n 1, 1) := dk_43 (dk_at dksJ3_resize_7 3 rfl rfl)
theorem dJ3_resize_168 : decode cJ3_resize 168 = .ok (.iload 7, 2) := dk_21 7 (dk_at dksJ3_resize_7 4 rfl rfl)
theorem dJ3_resize_170 : decode cJ3_resize 170 = .ok (.aconst_null, 1) := dk_1 (dk_at dksJ3_resize_7 6 rfl rfl)
theorem dJ3_resize_171 : decode cJ3_resize 171 = .ok (.aastore, 1) := dk_83 (dk_at dksJ3_resize_7 7 rfl rfl)
theorem dJ3_resize_172 : decode cJ3_resize 172 = .ok (.aload 8, 2) := dk_25 8 (dk_at dksJ3_resize_7 8 rfl rfl)
theorem dJ3_resize_174 : decode cJ3_resize 174 = .ok (.getfield 177, 3) := dk_180 0 177 (dk_at dksJ3_resize_7 10 rfl rfl)
theorem dJ3_resize_177 : decode cJ3_resize 177 = .ok (.ifnonnull 21, 3) := dk_199 0 21 (dk_at dksJ3_resize_7 13 rfl rfl)
theorem dJ3_resize_180 : decode cJ3_resize 180 = .ok (.aload 6, 2) := dk_25 6 (dk_at dksJ3_resize_7 16 rfl rfl)
theorem dJ3_resize_182 : decode cJ3_resize 182 = .ok (.aload 8, 2) := dk_25 8 (dk_at dksJ3_resize_7 18 rfl rfl)
theorem dJ3_resize_184 : decode cJ3_resize 184 = .ok (.getfield 168, 3) := dk_180 0 168 (dk_at dksJ3_resize_7 20 rfl rfl)
theorem dJ3_resize_187 : decode cJ3_resize 187 = .ok (.iload 4, 2) := dk_21 4 (dk_at dksJ3_resize_8 0 rfl rfl)
theorem dJ3_resize_189 : decode cJ3_resize 189 = .ok (.iconst 1, 1) := dk_4 (dk_at dksJ3_resize_8 2 rfl rfl)
theorem dJ3_resize_190 : decode cJ3_resize 190 = .ok (.isub, 1) := dk_100 (dk_at dksJ3_resize_8 3 rfl rfl)
theorem dJ3_resize_191 : decode cJ3_resize 191 = .ok (.iand, 1) := dk_126 (dk_at dksJ3_resize_8 4 rfl rfl)
theorem dJ3_resize_192 : decode cJ3_resize 192 = .ok (.aload 8, 2) := dk_25 8 (dk_at dksJ3_resize_8 5 rfl rfl)
theorem dJ3_resize_194 : decode cJ3_resize 194 = .ok (.aastore, 1) := dk_83 (dk_at dksJ3_resize_8 7 rfl rfl)
theorem dJ3_resize_195 : decode cJ3_resize 195 = .ok (.goto 152, 3) := dk_167 0 152 (dk_at dksJ3_resize_8 8 rfl rfl)
theorem dJ3_resize_198 : decode cJ3_resize 198 = .ok (.aload 8, 2) := dk_25 8 (dk_at dksJ3_resize_8 11 rfl rfl)
theorem dJ3_resize_200 : decode cJ3_resize 200 = .ok (.instanceof 180, 3) := dk_193 0 180 (dk_at dksJ3_resize_8 13 rfl rfl)
theorem dJ3_resize_203 : decode cJ3_resize 203 = .ok (.ifCond .eq 20, 3) := dk_153 0 20 (dk_at dksJ3_resize_8 16 rfl rfl)
theorem dJ3_resize_206 : decode cJ3_resize 206 = .ok (.aload 8, 2) := dk_25 8 (dk_at dksJ3_resize_8 19 rfl rfl)
theorem dJ3_resize_208 : decode cJ3_resize 208 = .ok (.checkcast 180, 3) := dk_192 0 180 (dk_at dksJ3_resize_8 21 rfl rfl)
theorem dJ3_resize_211 : decode cJ3_resize 211 = .ok (.aload_n 0, 1) := dk_42 (dk_at dksJ3_resize_9 0 rfl rfl)
theorem dJ3_resize_212 : decode cJ3_resize 212 = .ok (.aload 6, 2) := dk_25 6 (dk_at dksJ3_resize_9 1 rfl rfl)
theorem dJ3_resize_214 : decode cJ3_resize 214 = .ok (.iload 7, 2) := dk_21 7 (dk_at dksJ3_resize_9 3 rfl rfl)
theorem dJ3_resize_216 : decode cJ3_resize 216 = .ok (.iload_n 2, 1) := dk_28 (dk_at dksJ3_resize_9 5 rfl rfl)
theorem dJ3_resize_217 : decode cJ3_resize 217 = .ok (.invokevirtual 211, 3) := dk_182 0 211 (dk_at dksJ3_resize_9 6 rfl rfl)
theorem dJ3_resize_220 : decode cJ3_resize 220 = .ok (.goto 127, 3) := dk_167 0 127 (dk_at dksJ3_resize_9 9 rfl rfl)
theorem dJ3_resize_223 : decode cJ3_resize 223 = .ok (.aconst_null, 1) := dk_1 (dk_at dksJ3_resize_9 12 rfl rfl)
theorem dJ3_resize_224 : decode cJ3_resize 224 = .ok (.astore 9, 2) := dk_58 9 (dk_at dksJ3_resize_9 13 rfl rfl)
theorem dJ3_resize_226 : decode cJ3_resize 226 = .ok (.aconst_null, 1) := dk_1 (dk_at dksJ3_resize_9 15 rfl rfl)
theorem dJ3_resize_227 : decode cJ3_resize 227 = .ok (.astore 10, 2) := dk_58 10 (dk_at dksJ3_resize_9 16 rfl rfl)
theorem dJ3_resize_229 : decode cJ3_resize 229 = .ok (.aconst_null, 1) := dk_1 (dk_at dksJ3_resize_9 18 rfl rfl)
theorem dJ3_resize_230 : decode cJ3_resize 230 = .ok (.astore 11, 2) := dk_58 11 (dk_at dksJ3_resize_9 19 rfl rfl)
theorem dJ3_resize_232 : decode cJ3_resize 232 = .ok (.aconst_null, 1) := dk_1 (dk_at dksJ3_resize_9 21 rfl rfl)
theorem dJ3_resize_233 : decode cJ3_resize 233 = .ok (.astore 12, 2) := dk_58 12 (dk_at dksJ3_resize_9 22 rfl rfl)
theorem dJ3_resize_235 : decode cJ3_resize 235 = .ok (.aload 8, 2) := dk_25 8 (dk_at dksJ3_resize_10 0 rfl rfl)
theorem dJ3_resize_237 : decode cJ3_resize 237 = .ok (.getfield 177, 3) := dk_180 0 177 (dk_at dksJ3_resize_10 2 rfl rfl)
theorem dJ3_resize_240 : decode cJ3_resize 240 = .ok (.astore 13, 2) := dk_58 13 (dk_at dksJ3_resize_10 5 rfl rfl)
theorem dJ3_resize_242 : decode cJ3_resize 242 = .ok (.aload 8, 2) := dk_25 8 (dk_at dksJ3_resize_10 7 rfl rfl)
theorem dJ3_resize_244 : decode cJ3_resize 244 = .ok (.getfield 168, 3) := dk_180 0 168 (dk_at dksJ3_resize_10 9 rfl rfl)
theorem dJ3_resize_247 : decode cJ3_resize 247 = .ok (.iload_n 2, 1) := dk_28 (dk_at dksJ3_resize_10 12 rfl rfl)
theorem dJ3_resize_248 : decode cJ3_resize 248 = .ok (.iand, 1) := dk_126 (dk_at dksJ3_resize_10 13 rfl rfl)
theorem dJ3_resize_249 : decode cJ3_resize 249 = .ok (.ifCond .ne 29, 3) := dk_154 0 29 (dk_at dksJ3_resize_10 14 rfl rfl)
theorem dJ3_resize_252 : decode cJ3_resize 252 = .ok (.aload 10, 2) := dk_25 10 (dk_at dksJ3_resize_10 17 rfl rfl)
theorem dJ3_resize_254 : decode cJ3_resize 254 = .ok (.ifnonnull 10, 3) := dk_199 0 10 (dk_at dksJ3_resize_10 19 rfl rfl)
theorem dJ3_resize_257 : decode cJ3_resize 257 = .ok (.aload 8, 2) := dk_25 8 (dk_at dksJ3_resize_10 22 rfl rfl)
theorem dJ3_resize_259 : decode cJ3_resize 259 = .ok (.astore 9, 2) := dk_58 9 (dk_at dksJ3_resize_11 0 rfl rfl)
theorem dJ3_resize_261 : decode cJ3_resize 261 = .ok (.goto 10, 3) := dk_167 0 10 (dk_at dksJ3_resize_11 2 rfl rfl)
theorem dJ3_resize_264 : decode cJ3_resize 264 = .ok (.aload 10, 2) := dk_25 10 (dk_at dksJ3_resize_11 5 rfl rfl)
theorem dJ3_resize_266 : decode cJ3_resize 266 = .ok (.aload 8, 2) := dk_25 8 (dk_at dksJ3_resize_11 7 rfl rfl)
theorem dJ3_resize_268 : decode cJ3_resize 268 = .ok (.putfield 177, 3) := dk_181 0 177 (dk_at dksJ3_resize_11 9 rfl rfl)
theorem dJ3_resize_271 : decode cJ3_resize 271 = .ok (.aload 8, 2) := dk_25 8 (dk_at dksJ3_resize_11 12 rfl rfl)
theorem dJ3_resize_273 : decode cJ3_resize 273 = .ok (.astore 10, 2) := dk_58 10 (dk_at dksJ3_resize_11 14 rfl rfl)
theorem dJ3_resize_275 : decode cJ3_resize 275 = .ok (.goto 26, 3) := dk_167 0 26 (dk_at dksJ3_resize_11 16 rfl rfl)
theorem dJ3_resize_278 : decode cJ3_resize 278 = .ok (.aload 12, 2) := dk_25 12 (dk_at dksJ3_resize_11 19 rfl rfl)
theorem dJ3_resize_280 : decode cJ3_resize 280 = .ok (.ifnonnull 10, 3) := dk_199 0 10 (dk_at dksJ3_resize_11 21 rfl rfl)
theorem dJ3_resize_283 : decode cJ3_resize 283 = .ok (.aload 8, 2) := dk_25 8 (dk_at dksJ3_resize_12 0 rfl rfl)
theorem dJ3_resize_285 : decode cJ3_resize 285 = .ok (.astore 11, 2) := dk_58 11 (dk_at dksJ3_resize_12 2 rfl rfl)
theorem dJ3_resize_287 : decode cJ3_resize 287 = .ok (.goto 10, 3) := dk_167 0 10 (dk_at dksJ3_resize_12 4 rfl rfl)
theorem dJ3_resize_290 : decode cJ3_resize 290 = .ok (.aload 12, 2) := dk_25 12 (dk_at dksJ3_resize_12 7 rfl rfl)
theorem dJ3_resize_292 : decode cJ3_resize 292 = .ok (.aload 8, 2) := dk_25 8 (dk_at dksJ3_resize_12 9 rfl rfl)
theorem dJ3_resize_294 : decode cJ3_resize 294 = .ok (.putfield 177, 3) := dk_181 0 177 (dk_at dksJ3_resize_12 11 rfl rfl)
theorem dJ3_resize_297 : decode cJ3_resize 297 = .ok (.aload 8, 2) := dk_25 8 (dk_at dksJ3_resize_12 14 rfl rfl)
theorem dJ3_resize_299 : decode cJ3_resize 299 = .ok (.astore 12, 2) := dk_58 12 (dk_at dksJ3_resize_12 16 rfl rfl)
theorem dJ3_resize_301 : decode cJ3_resize 301 = .ok (.aload 13, 2) := dk_25 13 (dk_at dksJ3_resize_12 18 rfl rfl)
theorem dJ3_resize_303 : decode cJ3_resize 303 = .ok (.dup, 1) := dk_89 (dk_at dksJ3_resize_12 20 rfl rfl)
theorem dJ3_resize_304 : decode cJ3_resize 304 = .ok (.astore 8, 2) := dk_58 8 (dk_at dksJ3_resize_12 21 rfl rfl)
theorem dJ3_resize_306 : decode cJ3_resize 306 = .ok (.ifnonnull (-71), 3) := dk_199 255 185 (dk_at dksJ3_resize_13 0 rfl rfl)
theorem dJ3_resize_309 : decode cJ3_resize 309 = .ok (.aload 10, 2) := dk_25 10 (dk_at dksJ3_resize_13 3 rfl rfl)
theorem dJ3_resize_311 : decode cJ3_resize 311 = .ok (.ifnull 16, 3) := dk_198 0 16 (dk_at dksJ3_resize_13 5 rfl rfl)
theorem dJ3_resize_314 : decode cJ3_resize 314 = .ok (.aload 10, 2) := dk_25 10 (dk_at dksJ3_resize_13 8 rfl rfl)
theorem dJ3_resize_316 : decode cJ3_resize 316 = .ok (.aconst_null, 1) := dk_1 (dk_at dksJ3_resize_13 10 rfl rfl)
theorem dJ3_resize_317 : decode cJ3_resize 317 = .ok (.putfield 177, 3) := dk_181 0 177 (dk_at dksJ3_resize_13 11 rfl rfl)
theorem dJ3_resize_320 : decode cJ3_resize 320 = .ok (.aload 6, 2) := dk_25 6 (dk_at dksJ3_resize_13 14 rfl rfl)
theorem dJ3_resize_322 : decode cJ3_resize 322 = .ok (.iload 7, 2) := dk_21 7 (dk_at dksJ3_resize_13 16 rfl rfl)
theorem dJ3_resize_324 : decode cJ3_resize 324 = .ok (.aload 9, 2) := dk_25 9 (dk_at dksJ3_resize_13 18 rfl rfl)
theorem dJ3_resize_326 : decode cJ3_resize 326 = .ok (.aastore, 1) := dk_83 (dk_at dksJ3_resize_13 20 rfl rfl)
theorem dJ3_resize_327 : decode cJ3_resize 327 = .ok (.aload 12, 2) := dk_25 12 (dk_at dksJ3_resize_13 21 rfl rfl)
theorem dJ3_resize_329 : decode cJ3_resize 329 = .ok (.ifnull 18, 3) := dk_198 0 18 (dk_at dksJ3_resize_14 0 rfl rfl)
theorem dJ3_resize_332 : decode cJ3_resize 332 = .ok (.aload 12, 2) := dk_25 12 (dk_at dksJ3_resize_14 3 rfl rfl)
theorem dJ3_resize_334 : decode cJ3_resize 334 = .ok (.aconst_null, 1) := dk_1 (dk_at dksJ3_resize_14 5 rfl rfl)
theorem dJ3_resize_335 : decode cJ3_resize 335 = .ok (.putfield 177, 3) := dk_181 0 177 (dk_at dksJ3_resize_14 6 rfl rfl)
theorem dJ3_resize_338 : decode cJ3_resize 338 = .ok (.aload 6, 2) := dk_25 6 (dk_at dksJ3_resize_14 9 rfl rfl)
theorem dJ3_resize_340 : decode cJ3_resize 340 = .ok (.iload 7, 2) := dk_21 7 (dk_at dksJ3_resize_14 11 rfl rfl)
theorem dJ3_resize_342 : decode cJ3_resize 342 = .ok (.iload_n 2, 1) := dk_28 (dk_at dksJ3_resize_14 13 rfl rfl)
theorem dJ3_resize_343 : decode cJ3_resize 343 = .ok (.iadd, 1) := dk_96 (dk_at dksJ3_resize_14 14 rfl rfl)
theorem dJ3_resize_344 : decode cJ3_resize 344 = .ok (.aload 11, 2) := dk_25 11 (dk_at dksJ3_resize_14 15 rfl rfl)
theorem dJ3_resize_346 : decode cJ3_resize 346 = .ok (.aastore, 1) := dk_83 (dk_at dksJ3_resize_14 17 rfl rfl)
theorem dJ3_resize_347 : decode cJ3_resize 347 = .ok (.iinc 7 1, 3) := dk_132 7 1 (dk_at dksJ3_resize_14 18 rfl rfl)
theorem dJ3_resize_350 : decode cJ3_resize 350 = .ok (.goto (-199), 3) := dk_167 255 57 (dk_at dksJ3_resize_14 21 rfl rfl)
theorem dJ3_resize_353 : decode cJ3_resize 353 = .ok (.aload 6, 2) := dk_25 6 (dk_at dksJ3_resize_15 0 rfl rfl)
theorem dJ3_resize_355 : decode cJ3_resize 355 = .ok (.areturn, 1) := dk_176 (dk_at dksJ3_resize_15 2 rfl rfl)
abbrev cJ3_newNode : ByteArray := prog_53_method_46_code
def yJ3_newNode : MethodName := ⟨RJ3, "newNode", "(ILjava/lang/Object;Ljava/lang/Object;Ljava/util/HashMap$Node;)Ljava/util/HashMap$Node;"⟩
def dkwJ3_newNode_0 : List UInt8 := [187, 0, 163, 89, 27, 44, 45, 25, 4, 183, 1, 119, 176]
abbrev dktJ3_newNode_0 : List UInt8 := dkwJ3_newNode_0 ++ []
theorem dksJ3_newNode_0 : cJ3_newNode.data.toList.drop 0 = dktJ3_newNode_0 := by decide +kernel
theorem dJ3_newNode_0 : decode cJ3_newNode 0 = .ok (.new 163, 3) := dk_187 0 163 (dk_at dksJ3_newNode_0 0 rfl rfl)
theorem dJ3_newNode_3 : decode cJ3_newNode 3 = .ok (.dup, 1) := dk_89 (dk_at dksJ3_newNode_0 3 rfl rfl)
theorem dJ3_newNode_4 : decode cJ3_newNode 4 = .ok (.iload_n 1, 1) := dk_27 (dk_at dksJ3_newNode_0 4 rfl rfl)
theorem dJ3_newNode_5 : decode cJ3_newNode 5 = .ok (.aload_n 2, 1) := dk_44 (dk_at dksJ3_newNode_0 5 rfl rfl)
theorem dJ3_newNode_6 : decode cJ3_newNode 6 = .ok (.aload_n 3, 1) := dk_45 (dk_at dksJ3_newNode_0 6 rfl rfl)
theorem dJ3_newNode_7 : decode cJ3_newNode 7 = .ok (.aload 4, 2) := dk_25 4 (dk_at dksJ3_newNode_0 7 rfl rfl)
theorem dJ3_newNode_9 : decode cJ3_newNode 9 = .ok (.invokespecial 375, 3) := dk_183 1 119 (dk_at dksJ3_newNode_0 9 rfl rfl)
theorem dJ3_newNode_12 : decode cJ3_newNode 12 = .ok (.areturn, 1) := dk_176 (dk_at dksJ3_newNode_0 12 rfl rfl)
abbrev cJ3_afterNodeInsertion : ByteArray := prog_53_method_52_code
def yJ3_afterNodeInsertion : MethodName := ⟨RJ3, "afterNodeInsertion", "(Z)V"⟩
theorem dJ3_afterNodeInsertion_0 : decode cJ3_afterNodeInsertion 0 = .ok (.return_, 1) := by decide +kernel
abbrev cJ3_get : ByteArray := prog_53_method_12_code
def yJ3_get : MethodName := ⟨RJ3, "get", "(Ljava/lang/Object;)Ljava/lang/Object;"⟩
def dkwJ3_get_0 : List UInt8 := [42, 43, 182, 0, 158, 89, 77, 199, 0, 7, 1, 167, 0, 7, 44, 180, 0, 162, 176]
abbrev dktJ3_get_0 : List UInt8 := dkwJ3_get_0 ++ []
theorem dksJ3_get_0 : cJ3_get.data.toList.drop 0 = dktJ3_get_0 := by decide +kernel
theorem dJ3_get_0 : decode cJ3_get 0 = .ok (.aload_n 0, 1) := dk_42 (dk_at dksJ3_get_0 0 rfl rfl)
theorem dJ3_get_1 : decode cJ3_get 1 = .ok (.aload_n 1, 1) := dk_43 (dk_at dksJ3_get_0 1 rfl rfl)
theorem dJ3_get_2 : decode cJ3_get 2 = .ok (.invokevirtual 158, 3) := dk_182 0 158 (dk_at dksJ3_get_0 2 rfl rfl)
theorem dJ3_get_5 : decode cJ3_get 5 = .ok (.dup, 1) := dk_89 (dk_at dksJ3_get_0 5 rfl rfl)
theorem dJ3_get_6 : decode cJ3_get 6 = .ok (.astore_n 2, 1) := dk_77 (dk_at dksJ3_get_0 6 rfl rfl)
theorem dJ3_get_7 : decode cJ3_get 7 = .ok (.ifnonnull 7, 3) := dk_199 0 7 (dk_at dksJ3_get_0 7 rfl rfl)
theorem dJ3_get_10 : decode cJ3_get 10 = .ok (.aconst_null, 1) := dk_1 (dk_at dksJ3_get_0 10 rfl rfl)
theorem dJ3_get_11 : decode cJ3_get 11 = .ok (.goto 7, 3) := dk_167 0 7 (dk_at dksJ3_get_0 11 rfl rfl)
theorem dJ3_get_14 : decode cJ3_get 14 = .ok (.aload_n 2, 1) := dk_44 (dk_at dksJ3_get_0 14 rfl rfl)
theorem dJ3_get_15 : decode cJ3_get 15 = .ok (.getfield 162, 3) := dk_180 0 162 (dk_at dksJ3_get_0 15 rfl rfl)
theorem dJ3_get_18 : decode cJ3_get 18 = .ok (.areturn, 1) := dk_176 (dk_at dksJ3_get_0 18 rfl rfl)
def RJ2 : String := "java/util/AbstractMap"
abbrev cJ2_init : ByteArray := prog_47_method_1_code
def yJ2_init : MethodName := ⟨RJ2, "<init>", "()V"⟩
theorem dJ2_init_0 : decode cJ2_init 0 = .ok (.aload_n 0, 1) := by decide +kernel
theorem dJ2_init_1 : decode cJ2_init 1 = .ok (.invokespecial 1, 3) := by decide +kernel
theorem dJ2_init_4 : decode cJ2_init 4 = .ok (.return_, 1) := by decide +kernel
abbrev cJ22_init : ByteArray := prog_54_method_1_code
def yJ22_init : MethodName := ⟨RJ22, "<init>", "(ILjava/lang/Object;Ljava/lang/Object;Ljava/util/HashMap$Node;)V"⟩
def dkwJ22_init_1 : List UInt8 := [181, 0, 20, 177]
abbrev dktJ22_init_1 : List UInt8 := dkwJ22_init_1 ++ []
def dkwJ22_init_0 : List UInt8 := [42, 183, 0, 1, 42, 27, 181, 0, 7, 42, 44, 181, 0, 13, 42, 45, 181, 0, 17, 42, 25, 4]
abbrev dktJ22_init_0 : List UInt8 := dkwJ22_init_0 ++ dktJ22_init_1
theorem dksJ22_init_0 : cJ22_init.data.toList.drop 0 = dktJ22_init_0 := by decide +kernel
theorem dksJ22_init_1 : cJ22_init.data.toList.drop 22 = dktJ22_init_1 := dk_seg dksJ22_init_0 22 rfl rfl
theorem dJ22_init_0 : decode cJ22_init 0 = .ok (.aload_n 0, 1) := dk_42 (dk_at dksJ22_init_0 0 rfl rfl)
theorem dJ22_init_1 : decode cJ22_init 1 = .ok (.invokespecial 1, 3) := dk_183 0 1 (dk_at dksJ22_init_0 1 rfl rfl)
theorem dJ22_init_4 : decode cJ22_init 4 = .ok (.aload_n 0, 1) := dk_42 (dk_at dksJ22_init_0 4 rfl rfl)
theorem dJ22_init_5 : decode cJ22_init 5 = .ok (.iload_n 1, 1) := dk_27 (dk_at dksJ22_init_0 5 rfl rfl)
theorem dJ22_init_6 : decode cJ22_init 6 = .ok (.putfield 7, 3) := dk_181 0 7 (dk_at dksJ22_init_0 6 rfl rfl)
theorem dJ22_init_9 : decode cJ22_init 9 = .ok (.aload_n 0, 1) := dk_42 (dk_at dksJ22_init_0 9 rfl rfl)
theorem dJ22_init_10 : decode cJ22_init 10 = .ok (.aload_n 2, 1) := dk_44 (dk_at dksJ22_init_0 10 rfl rfl)
theorem dJ22_init_11 : decode cJ22_init 11 = .ok (.putfield 13, 3) := dk_181 0 13 (dk_at dksJ22_init_0 11 rfl rfl)
theorem dJ22_init_14 : decode cJ22_init 14 = .ok (.aload_n 0, 1) := dk_42 (dk_at dksJ22_init_0 14 rfl rfl)
theorem dJ22_init_15 : decode cJ22_init 15 = .ok (.aload_n 3, 1) := dk_45 (dk_at dksJ22_init_0 15 rfl rfl)
theorem dJ22_init_16 : decode cJ22_init 16 = .ok (.putfield 17, 3) := dk_181 0 17 (dk_at dksJ22_init_0 16 rfl rfl)
theorem dJ22_init_19 : decode cJ22_init 19 = .ok (.aload_n 0, 1) := dk_42 (dk_at dksJ22_init_0 19 rfl rfl)
theorem dJ22_init_20 : decode cJ22_init 20 = .ok (.aload 4, 2) := dk_25 4 (dk_at dksJ22_init_0 20 rfl rfl)
theorem dJ22_init_22 : decode cJ22_init 22 = .ok (.putfield 20, 3) := dk_181 0 20 (dk_at dksJ22_init_1 0 rfl rfl)
theorem dJ22_init_25 : decode cJ22_init 25 = .ok (.return_, 1) := dk_177 (dk_at dksJ22_init_1 3 rfl rfl)
abbrev cJ11_init : ByteArray := prog_36_method_1_code
def yJ11_init : MethodName := ⟨RJ11, "<init>", "()V"⟩
def dkwJ11_init_0 : List UInt8 := [42, 16, 16, 183, 0, 1, 177]
abbrev dktJ11_init_0 : List UInt8 := dkwJ11_init_0 ++ []
theorem dksJ11_init_0 : cJ11_init.data.toList.drop 0 = dktJ11_init_0 := by decide +kernel
theorem dJ11_init_0 : decode cJ11_init 0 = .ok (.aload_n 0, 1) := dk_42 (dk_at dksJ11_init_0 0 rfl rfl)
theorem dJ11_init_1 : decode cJ11_init 1 = .ok (.bipush 16, 2) := dk_16 16 (dk_at dksJ11_init_0 1 rfl rfl)
theorem dJ11_init_3 : decode cJ11_init 3 = .ok (.invokespecial 1, 3) := dk_183 0 1 (dk_at dksJ11_init_0 3 rfl rfl)
theorem dJ11_init_6 : decode cJ11_init 6 = .ok (.return_, 1) := dk_177 (dk_at dksJ11_init_0 6 rfl rfl)
abbrev cJ11_toString : ByteArray := prog_36_method_42_code
def yJ11_toString : MethodName := ⟨RJ11, "toString", "()Ljava/lang/String;"⟩
def dkwJ11_toString_0 : List UInt8 := [187, 0, 18, 89, 42, 183, 0, 137, 176]
abbrev dktJ11_toString_0 : List UInt8 := dkwJ11_toString_0 ++ []
theorem dksJ11_toString_0 : cJ11_toString.data.toList.drop 0 = dktJ11_toString_0 := by decide +kernel
theorem dJ11_toString_0 : decode cJ11_toString 0 = .ok (.new 18, 3) := dk_187 0 18 (dk_at dksJ11_toString_0 0 rfl rfl)
theorem dJ11_toString_3 : decode cJ11_toString 3 = .ok (.dup, 1) := dk_89 (dk_at dksJ11_toString_0 3 rfl rfl)
theorem dJ11_toString_4 : decode cJ11_toString 4 = .ok (.aload_n 0, 1) := dk_42 (dk_at dksJ11_toString_0 4 rfl rfl)
theorem dJ11_toString_5 : decode cJ11_toString 5 = .ok (.invokespecial 137, 3) := dk_183 0 137 (dk_at dksJ11_toString_0 5 rfl rfl)
theorem dJ11_toString_8 : decode cJ11_toString 8 = .ok (.areturn, 1) := dk_176 (dk_at dksJ11_toString_0 8 rfl rfl)
abbrev cJ11_length : ByteArray := prog_36_method_93_code
def yJ11_length : MethodName := ⟨RJ11, "length", "()I"⟩
theorem dJ11_length_0 : decode cJ11_length 0 = .ok (.aload_n 0, 1) := by decide +kernel
theorem dJ11_length_1 : decode cJ11_length 1 = .ok (.invokespecial 343, 3) := by decide +kernel
theorem dJ11_length_4 : decode cJ11_length 4 = .ok (.ireturn, 1) := by decide +kernel
abbrev cJ11_append_3 : ByteArray := prog_36_method_14_code
def yJ11_append_3 : MethodName := ⟨RJ11, "append", "(C)Ljava/lang/StringBuilder;"⟩
def dkwJ11_append_3_0 : List UInt8 := [42, 27, 183, 0, 50, 87, 42, 176]
abbrev dktJ11_append_3_0 : List UInt8 := dkwJ11_append_3_0 ++ []
theorem dksJ11_append_3_0 : cJ11_append_3.data.toList.drop 0 = dktJ11_append_3_0 := by decide +kernel
theorem dJ11_append_3_0 : decode cJ11_append_3 0 = .ok (.aload_n 0, 1) := dk_42 (dk_at dksJ11_append_3_0 0 rfl rfl)
theorem dJ11_append_3_1 : decode cJ11_append_3 1 = .ok (.iload_n 1, 1) := dk_27 (dk_at dksJ11_append_3_0 1 rfl rfl)
theorem dJ11_append_3_2 : decode cJ11_append_3 2 = .ok (.invokespecial 50, 3) := dk_183 0 50 (dk_at dksJ11_append_3_0 2 rfl rfl)
theorem dJ11_append_3_5 : decode cJ11_append_3 5 = .ok (.pop, 1) := dk_87 (dk_at dksJ11_append_3_0 5 rfl rfl)
theorem dJ11_append_3_6 : decode cJ11_append_3 6 = .ok (.aload_n 0, 1) := dk_42 (dk_at dksJ11_append_3_0 6 rfl rfl)
theorem dJ11_append_3_7 : decode cJ11_append_3 7 = .ok (.areturn, 1) := dk_176 (dk_at dksJ11_append_3_0 7 rfl rfl)
abbrev cJ11_charAt : ByteArray := prog_36_method_88_code
def yJ11_charAt : MethodName := ⟨RJ11, "charAt", "(I)C"⟩
def dkwJ11_charAt_0 : List UInt8 := [42, 27, 183, 1, 73, 172]
abbrev dktJ11_charAt_0 : List UInt8 := dkwJ11_charAt_0 ++ []
theorem dksJ11_charAt_0 : cJ11_charAt.data.toList.drop 0 = dktJ11_charAt_0 := by decide +kernel
theorem dJ11_charAt_0 : decode cJ11_charAt 0 = .ok (.aload_n 0, 1) := dk_42 (dk_at dksJ11_charAt_0 0 rfl rfl)
theorem dJ11_charAt_1 : decode cJ11_charAt 1 = .ok (.iload_n 1, 1) := dk_27 (dk_at dksJ11_charAt_0 1 rfl rfl)
theorem dJ11_charAt_2 : decode cJ11_charAt 2 = .ok (.invokespecial 329, 3) := dk_183 1 73 (dk_at dksJ11_charAt_0 2 rfl rfl)
theorem dJ11_charAt_5 : decode cJ11_charAt 5 = .ok (.ireturn, 1) := dk_172 (dk_at dksJ11_charAt_0 5 rfl rfl)
abbrev cJ11_setLength : ByteArray := prog_36_method_89_code
def yJ11_setLength : MethodName := ⟨RJ11, "setLength", "(I)V"⟩
def dkwJ11_setLength_0 : List UInt8 := [42, 27, 183, 1, 77, 177]
abbrev dktJ11_setLength_0 : List UInt8 := dkwJ11_setLength_0 ++ []
theorem dksJ11_setLength_0 : cJ11_setLength.data.toList.drop 0 = dktJ11_setLength_0 := by decide +kernel
theorem dJ11_setLength_0 : decode cJ11_setLength 0 = .ok (.aload_n 0, 1) := dk_42 (dk_at dksJ11_setLength_0 0 rfl rfl)
theorem dJ11_setLength_1 : decode cJ11_setLength 1 = .ok (.iload_n 1, 1) := dk_27 (dk_at dksJ11_setLength_0 1 rfl rfl)
theorem dJ11_setLength_2 : decode cJ11_setLength 2 = .ok (.invokespecial 333, 3) := dk_183 1 77 (dk_at dksJ11_setLength_0 2 rfl rfl)
theorem dJ11_setLength_5 : decode cJ11_setLength 5 = .ok (.return_, 1) := dk_177 (dk_at dksJ11_setLength_0 5 rfl rfl)
def RJ10 : String := "java/lang/AbstractStringBuilder"
abbrev cJ10_init : ByteArray := prog_18_method_2_code
def yJ10_init : MethodName := ⟨RJ10, "<init>", "(I)V"⟩
def dkwJ10_init_1 : List UInt8 := [167, 0, 16, 42, 27, 184, 0, 26, 181, 0, 15, 42, 4, 181, 0, 22, 177]
abbrev dktJ10_init_1 : List UInt8 := dkwJ10_init_1 ++ []
def dkwJ10_init_0 : List UInt8 := [42, 183, 0, 3, 178, 0, 18, 153, 0, 18, 42, 27, 188, 8, 181, 0, 15, 42, 3, 181, 0, 22]
abbrev dktJ10_init_0 : List UInt8 := dkwJ10_init_0 ++ dktJ10_init_1
theorem dksJ10_init_0 : cJ10_init.data.toList.drop 0 = dktJ10_init_0 := by decide +kernel
theorem dksJ10_init_1 : cJ10_init.data.toList.drop 22 = dktJ10_init_1 := dk_seg dksJ10_init_0 22 rfl rfl
theorem dJ10_init_0 : decode cJ10_init 0 = .ok (.aload_n 0, 1) := dk_42 (dk_at dksJ10_init_0 0 rfl rfl)
theorem dJ10_init_1 : decode cJ10_init 1 = .ok (.invokespecial 3, 3) := dk_183 0 3 (dk_at dksJ10_init_0 1 rfl rfl)
theorem dJ10_init_4 : decode cJ10_init 4 = .ok (.getstatic 18, 3) := dk_178 0 18 (dk_at dksJ10_init_0 4 rfl rfl)
theorem dJ10_init_7 : decode cJ10_init 7 = .ok (.ifCond .eq 18, 3) := dk_153 0 18 (dk_at dksJ10_init_0 7 rfl rfl)
theorem dJ10_init_10 : decode cJ10_init 10 = .ok (.aload_n 0, 1) := dk_42 (dk_at dksJ10_init_0 10 rfl rfl)
theorem dJ10_init_11 : decode cJ10_init 11 = .ok (.iload_n 1, 1) := dk_27 (dk_at dksJ10_init_0 11 rfl rfl)
theorem dJ10_init_12 : decode cJ10_init 12 = .ok (.newarray .byte, 2) := dk_188_8 (dk_at dksJ10_init_0 12 rfl rfl)
theorem dJ10_init_14 : decode cJ10_init 14 = .ok (.putfield 15, 3) := dk_181 0 15 (dk_at dksJ10_init_0 14 rfl rfl)
theorem dJ10_init_17 : decode cJ10_init 17 = .ok (.aload_n 0, 1) := dk_42 (dk_at dksJ10_init_0 17 rfl rfl)
theorem dJ10_init_18 : decode cJ10_init 18 = .ok (.iconst 0, 1) := dk_3 (dk_at dksJ10_init_0 18 rfl rfl)
theorem dJ10_init_19 : decode cJ10_init 19 = .ok (.putfield 22, 3) := dk_181 0 22 (dk_at dksJ10_init_0 19 rfl rfl)
theorem dJ10_init_22 : decode cJ10_init 22 = .ok (.goto 16, 3) := dk_167 0 16 (dk_at dksJ10_init_1 0 rfl rfl)
theorem dJ10_init_25 : decode cJ10_init 25 = .ok (.aload_n 0, 1) := dk_42 (dk_at dksJ10_init_1 3 rfl rfl)
theorem dJ10_init_26 : decode cJ10_init 26 = .ok (.iload_n 1, 1) := dk_27 (dk_at dksJ10_init_1 4 rfl rfl)
theorem dJ10_init_27 : decode cJ10_init 27 = .ok (.invokestatic 26, 3) := dk_184 0 26 (dk_at dksJ10_init_1 5 rfl rfl)
theorem dJ10_init_30 : decode cJ10_init 30 = .ok (.putfield 15, 3) := dk_181 0 15 (dk_at dksJ10_init_1 8 rfl rfl)
theorem dJ10_init_33 : decode cJ10_init 33 = .ok (.aload_n 0, 1) := dk_42 (dk_at dksJ10_init_1 11 rfl rfl)
theorem dJ10_init_34 : decode cJ10_init 34 = .ok (.iconst 1, 1) := dk_4 (dk_at dksJ10_init_1 12 rfl rfl)
theorem dJ10_init_35 : decode cJ10_init 35 = .ok (.putfield 22, 3) := dk_181 0 22 (dk_at dksJ10_init_1 13 rfl rfl)
theorem dJ10_init_38 : decode cJ10_init 38 = .ok (.return_, 1) := dk_177 (dk_at dksJ10_init_1 16 rfl rfl)
abbrev cJ10_ensureCapacityInternal : ByteArray := prog_18_method_9_code
def yJ10_ensureCapacityInternal : MethodName := ⟨RJ10, "ensureCapacityInternal", "(I)V"⟩
def dkwJ10_ensureCapacityInternal_1 : List UInt8 := [182, 0, 104, 42, 180, 0, 22, 120, 184, 0, 108, 181, 0, 15, 177]
abbrev dktJ10_ensureCapacityInternal_1 : List UInt8 := dkwJ10_ensureCapacityInternal_1 ++ []
def dkwJ10_ensureCapacityInternal_0 : List UInt8 := [42, 180, 0, 15, 190, 42, 180, 0, 22, 122, 61, 27, 28, 100, 158, 0, 24, 42, 42, 180, 0, 15, 42, 27]
abbrev dktJ10_ensureCapacityInternal_0 : List UInt8 := dkwJ10_ensureCapacityInternal_0 ++ dktJ10_ensureCapacityInternal_1
theorem dksJ10_ensureCapacityInternal_0 : cJ10_ensureCapacityInternal.data.toList.drop 0 = dktJ10_ensureCapacityInternal_0 := by decide +kernel
theorem dksJ10_ensureCapacityInternal_1 : cJ10_ensureCapacityInternal.data.toList.drop 24 = dktJ10_ensureCapacityInternal_1 := dk_seg dksJ10_ensureCapacityInternal_0 24 rfl rfl
theorem dJ10_ensureCapacityInternal_0 : decode cJ10_ensureCapacityInternal 0 = .ok (.aload_n 0, 1) := dk_42 (dk_at dksJ10_ensureCapacityInternal_0 0 rfl rfl)
theorem dJ10_ensureCapacityInternal_1 : decode cJ10_ensureCapacityInternal 1 = .ok (.getfield 15, 3) := dk_180 0 15 (dk_at dksJ10_ensureCapacityInternal_0 1 rfl rfl)
theorem dJ10_ensureCapacityInternal_4 : decode cJ10_ensureCapacityInternal 4 = .ok (.arraylength, 1) := dk_190 (dk_at dksJ10_ensureCapacityInternal_0 4 rfl rfl)
theorem dJ10_ensureCapacityInternal_5 : decode cJ10_ensureCapacityInternal 5 = .ok (.aload_n 0, 1) := dk_42 (dk_at dksJ10_ensureCapacityInternal_0 5 rfl rfl)
theorem dJ10_ensureCapacityInternal_6 : decode cJ10_ensureCapacityInternal 6 = .ok (.getfield 22, 3) := dk_180 0 22 (dk_at dksJ10_ensureCapacityInternal_0 6 rfl rfl)
theorem dJ10_ensureCapacityInternal_9 : decode cJ10_ensureCapacityInternal 9 = .ok (.ishr, 1) := dk_122 (dk_at dksJ10_ensureCapacityInternal_0 9 rfl rfl)
theorem dJ10_ensureCapacityInternal_10 : decode cJ10_ensureCapacityInternal 10 = .ok (.istore_n 2, 1) := dk_61 (dk_at dksJ10_ensureCapacityInternal_0 10 rfl rfl)
theorem dJ10_ensureCapacityInternal_11 : decode cJ10_ensureCapacityInternal 11 = .ok (.iload_n 1, 1) := dk_27 (dk_at dksJ10_ensureCapacityInternal_0 11 rfl rfl)
theorem dJ10_ensureCapacityInternal_12 : decode cJ10_ensureCapacityInternal 12 = .ok (.iload_n 2, 1) := dk_28 (dk_at dksJ10_ensureCapacityInternal_0 12 rfl rfl)
theorem dJ10_ensureCapacityInternal_13 : decode cJ10_ensureCapacityInternal 13 = .ok (.isub, 1) := dk_100 (dk_at dksJ10_ensureCapacityInternal_0 13 rfl rfl)
theorem dJ10_ensureCapacityInternal_14 : decode cJ10_ensureCapacityInternal 14 = .ok (.ifCond .le 24, 3) := dk_158 0 24 (dk_at dksJ10_ensureCapacityInternal_0 14 rfl rfl)
theorem dJ10_ensureCapacityInternal_17 : decode cJ10_ensureCapacityInternal 17 = .ok (.aload_n 0, 1) := dk_42 (dk_at dksJ10_ensureCapacityInternal_0 17 rfl rfl)
theorem dJ10_ensureCapacityInternal_18 : decode cJ10_ensureCapacityInternal 18 = .ok (.aload_n 0, 1) := dk_42 (dk_at dksJ10_ensureCapacityInternal_0 18 rfl rfl)
theorem dJ10_ensureCapacityInternal_19 : decode cJ10_ensureCapacityInternal 19 = .ok (.getfield 15, 3) := dk_180 0 15 (dk_at dksJ10_ensureCapacityInternal_0 19 rfl rfl)
theorem dJ10_ensureCapacityInternal_22 : decode cJ10_ensureCapacityInternal 22 = .ok (.aload_n 0, 1) := dk_42 (dk_at dksJ10_ensureCapacityInternal_0 22 rfl rfl)
theorem dJ10_ensureCapacityInternal_23 : decode cJ10_ensureCapacityInternal 23 = .ok (.iload_n 1, 1) := dk_27 (dk_at dksJ10_ensureCapacityInternal_0 23 rfl rfl)
theorem dJ10_ensureCapacityInternal_24 : decode cJ10_ensureCapacityInternal 24 = .ok (.invokevirtual 104, 3) := dk_182 0 104 (dk_at dksJ10_ensureCapacityInternal_1 0 rfl rfl)
theorem dJ10_ensureCapacityInternal_27 : decode cJ10_ensureCapacityInternal 27 = .ok (.aload_n 0, 1) := dk_42 (dk_at dksJ10_ensureCapacityInternal_1 3 rfl rfl)
theorem dJ10_ensureCapacityInternal_28 : decode cJ10_ensureCapacityInternal 28 = .ok (.getfield 22, 3) := dk_180 0 22 (dk_at dksJ10_ensureCapacityInternal_1 4 rfl rfl)
theorem dJ10_ensureCapacityInternal_31 : decode cJ10_ensureCapacityInternal 31 = .ok (.ishl, 1) := dk_120 (dk_at dksJ10_ensureCapacityInternal_1 7 rfl rfl)
theorem dJ10_ensureCapacityInternal_32 : decode cJ10_ensureCapacityInternal 32 = .ok (.invokestatic 108, 3) := dk_184 0 108 (dk_at dksJ10_ensureCapacityInternal_1 8 rfl rfl)
theorem dJ10_ensureCapacityInternal_35 : decode cJ10_ensureCapacityInternal 35 = .ok (.putfield 15, 3) := dk_181 0 15 (dk_at dksJ10_ensureCapacityInternal_1 11 rfl rfl)
theorem dJ10_ensureCapacityInternal_38 : decode cJ10_ensureCapacityInternal 38 = .ok (.return_, 1) := dk_177 (dk_at dksJ10_ensureCapacityInternal_1 14 rfl rfl)
abbrev cJ10_newCapacity : ByteArray := prog_18_method_10_code
def yJ10_newCapacity : MethodName := ⟨RJ10, "newCapacity", "(I)I"⟩
def dkwJ10_newCapacity_2 : List UInt8 := [183, 0, 124, 191, 21, 5, 42, 180, 0, 22, 122, 172]
abbrev dktJ10_newCapacity_2 : List UInt8 := dkwJ10_newCapacity_2 ++ []
def dkwJ10_newCapacity_1 : List UInt8 := [180, 0, 22, 120, 96, 184, 0, 114, 54, 5, 21, 5, 18, 39, 160, 0, 13, 187, 0, 120, 89, 18, 122]
abbrev dktJ10_newCapacity_1 : List UInt8 := dkwJ10_newCapacity_1 ++ dktJ10_newCapacity_2
def dkwJ10_newCapacity_0 : List UInt8 := [42, 180, 0, 15, 190, 61, 27, 42, 180, 0, 22, 120, 62, 29, 28, 100, 54, 4, 28, 21, 4, 28, 5, 42]
abbrev dktJ10_newCapacity_0 : List UInt8 := dkwJ10_newCapacity_0 ++ dktJ10_newCapacity_1
theorem dksJ10_newCapacity_0 : cJ10_newCapacity.data.toList.drop 0 = dktJ10_newCapacity_0 := by decide +kernel
theorem dksJ10_newCapacity_1 : cJ10_newCapacity.data.toList.drop 24 = dktJ10_newCapacity_1 := dk_seg dksJ10_newCapacity_0 24 rfl rfl
theorem dksJ10_newCapacity_2 : cJ10_newCapacity.data.toList.drop 47 = dktJ10_newCapacity_2 := dk_seg dksJ10_newCapacity_1 23 rfl rfl
theorem dJ10_newCapacity_0 : decode cJ10_newCapacity 0 = .ok (.aload_n 0, 1) := dk_42 (dk_at dksJ10_newCapacity_0 0 rfl rfl)
theorem dJ10_newCapacity_1 : decode cJ10_newCapacity 1 = .ok (.getfield 15, 3) := dk_180 0 15 (dk_at dksJ10_newCapacity_0 1 rfl rfl)
theorem dJ10_newCapacity_4 : decode cJ10_newCapacity 4 = .ok (.arraylength, 1) := dk_190 (dk_at dksJ10_newCapacity_0 4 rfl rfl)
theorem dJ10_newCapacity_5 : decode cJ10_newCapacity 5 = .ok (.istore_n 2, 1) := dk_61 (dk_at dksJ10_newCapacity_0 5 rfl rfl)
theorem dJ10_newCapacity_6 : decode cJ10_newCapacity 6 = .ok (.iload_n 1, 1) := dk_27 (dk_at dksJ10_newCapacity_0 6 rfl rfl)
theorem dJ10_newCapacity_7 : decode cJ10_newCapacity 7 = .ok (.aload_n 0, 1) := dk_42 (dk_at dksJ10_newCapacity_0 7 rfl rfl)
theorem dJ10_newCapacity_8 : decode cJ10_newCapacity 8 = .ok (.getfield 22, 3) := dk_180 0 22 (dk_at dksJ10_newCapacity_0 8 rfl rfl)
theorem dJ10_newCapacity_11 : decode cJ10_newCapacity 11 = .ok (.ishl, 1) := dk_120 (dk_at dksJ10_newCapacity_0 11 rfl rfl)
theorem dJ10_newCapacity_12 : decode cJ10_newCapacity 12 = .ok (.istore_n 3, 1) := dk_62 (dk_at dksJ10_newCapacity_0 12 rfl rfl)
theorem dJ10_newCapacity_13 : decode cJ10_newCapacity 13 = .ok (.iload_n 3, 1) := dk_29 (dk_at dksJ10_newCapacity_0 13 rfl rfl)
theorem dJ10_newCapacity_14 : decode cJ10_newCapacity 14 = .ok (.iload_n 2, 1) := dk_28 (dk_at dksJ10_newCapacity_0 14 rfl rfl)
theorem dJ10_newCapacity_15 : decode cJ10_newCapacity 15 = .ok (.isub, 1) := dk_100 (dk_at dksJ10_newCapacity_0 15 rfl rfl)
theorem dJ10_newCapacity_16 : decode cJ10_newCapacity 16 = .ok (.istore 4, 2) := dk_54 4 (dk_at dksJ10_newCapacity_0 16 rfl rfl)
theorem dJ10_newCapacity_18 : decode cJ10_newCapacity 18 = .ok (.iload_n 2, 1) := dk_28 (dk_at dksJ10_newCapacity_0 18 rfl rfl)
theorem dJ10_newCapacity_19 : decode cJ10_newCapacity 19 = .ok (.iload 4, 2) := dk_21 4 (dk_at dksJ10_newCapacity_0 19 rfl rfl)
theorem dJ10_newCapacity_21 : decode cJ10_newCapacity 21 = .ok (.iload_n 2, 1) := dk_28 (dk_at dksJ10_newCapacity_0 21 rfl rfl)
theorem dJ10_newCapacity_22 : decode cJ10_newCapacity 22 = .ok (.iconst 2, 1) := dk_5 (dk_at dksJ10_newCapacity_0 22 rfl rfl)
theorem dJ10_newCapacity_23 : decode cJ10_newCapacity 23 = .ok (.aload_n 0, 1) := dk_42 (dk_at dksJ10_newCapacity_0 23 rfl rfl)
theorem dJ10_newCapacity_24 : decode cJ10_newCapacity 24 = .ok (.getfield 22, 3) := dk_180 0 22 (dk_at dksJ10_newCapacity_1 0 rfl rfl)
theorem dJ10_newCapacity_27 : decode cJ10_newCapacity 27 = .ok (.ishl, 1) := dk_120 (dk_at dksJ10_newCapacity_1 3 rfl rfl)
theorem dJ10_newCapacity_28 : decode cJ10_newCapacity 28 = .ok (.iadd, 1) := dk_96 (dk_at dksJ10_newCapacity_1 4 rfl rfl)
theorem dJ10_newCapacity_29 : decode cJ10_newCapacity 29 = .ok (.invokestatic 114, 3) := dk_184 0 114 (dk_at dksJ10_newCapacity_1 5 rfl rfl)
theorem dJ10_newCapacity_32 : decode cJ10_newCapacity 32 = .ok (.istore 5, 2) := dk_54 5 (dk_at dksJ10_newCapacity_1 8 rfl rfl)
theorem dJ10_newCapacity_34 : decode cJ10_newCapacity 34 = .ok (.iload 5, 2) := dk_21 5 (dk_at dksJ10_newCapacity_1 10 rfl rfl)
theorem dJ10_newCapacity_36 : decode cJ10_newCapacity 36 = .ok (.ldc 39, 2) := dk_18 39 (dk_at dksJ10_newCapacity_1 12 rfl rfl)
theorem dJ10_newCapacity_38 : decode cJ10_newCapacity 38 = .ok (.if_icmp .ne 13, 3) := dk_160 0 13 (dk_at dksJ10_newCapacity_1 14 rfl rfl)
theorem dJ10_newCapacity_41 : decode cJ10_newCapacity 41 = .ok (.new 120, 3) := dk_187 0 120 (dk_at dksJ10_newCapacity_1 17 rfl rfl)
theorem dJ10_newCapacity_44 : decode cJ10_newCapacity 44 = .ok (.dup, 1) := dk_89 (dk_at dksJ10_newCapacity_1 20 rfl rfl)
theorem dJ10_newCapacity_45 : decode cJ10_newCapacity 45 = .ok (.ldc 122, 2) := dk_18 122 (dk_at dksJ10_newCapacity_1 21 rfl rfl)
theorem dJ10_newCapacity_47 : decode cJ10_newCapacity 47 = .ok (.invokespecial 124, 3) := dk_183 0 124 (dk_at dksJ10_newCapacity_2 0 rfl rfl)
theorem dJ10_newCapacity_50 : decode cJ10_newCapacity 50 = .ok (.athrow, 1) := dk_191 (dk_at dksJ10_newCapacity_2 3 rfl rfl)
theorem dJ10_newCapacity_51 : decode cJ10_newCapacity 51 = .ok (.iload 5, 2) := dk_21 5 (dk_at dksJ10_newCapacity_2 4 rfl rfl)
theorem dJ10_newCapacity_53 : decode cJ10_newCapacity 53 = .ok (.aload_n 0, 1) := dk_42 (dk_at dksJ10_newCapacity_2 6 rfl rfl)
theorem dJ10_newCapacity_54 : decode cJ10_newCapacity 54 = .ok (.getfield 22, 3) := dk_180 0 22 (dk_at dksJ10_newCapacity_2 7 rfl rfl)
theorem dJ10_newCapacity_57 : decode cJ10_newCapacity 57 = .ok (.ishr, 1) := dk_122 (dk_at dksJ10_newCapacity_2 10 rfl rfl)
theorem dJ10_newCapacity_58 : decode cJ10_newCapacity 58 = .ok (.ireturn, 1) := dk_172 (dk_at dksJ10_newCapacity_2 11 rfl rfl)
abbrev cJ10_isLatin1 : ByteArray := prog_18_method_68_code
def yJ10_isLatin1 : MethodName := ⟨RJ10, "isLatin1", "()Z"⟩
def dkwJ10_isLatin1_0 : List UInt8 := [178, 0, 18, 153, 0, 14, 42, 180, 0, 22, 154, 0, 7, 4, 167, 0, 4, 3, 172]
abbrev dktJ10_isLatin1_0 : List UInt8 := dkwJ10_isLatin1_0 ++ []
theorem dksJ10_isLatin1_0 : cJ10_isLatin1.data.toList.drop 0 = dktJ10_isLatin1_0 := by decide +kernel
theorem dJ10_isLatin1_0 : decode cJ10_isLatin1 0 = .ok (.getstatic 18, 3) := dk_178 0 18 (dk_at dksJ10_isLatin1_0 0 rfl rfl)
theorem dJ10_isLatin1_3 : decode cJ10_isLatin1 3 = .ok (.ifCond .eq 14, 3) := dk_153 0 14 (dk_at dksJ10_isLatin1_0 3 rfl rfl)
theorem dJ10_isLatin1_6 : decode cJ10_isLatin1 6 = .ok (.aload_n 0, 1) := dk_42 (dk_at dksJ10_isLatin1_0 6 rfl rfl)
theorem dJ10_isLatin1_7 : decode cJ10_isLatin1 7 = .ok (.getfield 22, 3) := dk_180 0 22 (dk_at dksJ10_isLatin1_0 7 rfl rfl)
theorem dJ10_isLatin1_10 : decode cJ10_isLatin1 10 = .ok (.ifCond .ne 7, 3) := dk_154 0 7 (dk_at dksJ10_isLatin1_0 10 rfl rfl)
theorem dJ10_isLatin1_13 : decode cJ10_isLatin1 13 = .ok (.iconst 1, 1) := dk_4 (dk_at dksJ10_isLatin1_0 13 rfl rfl)
theorem dJ10_isLatin1_14 : decode cJ10_isLatin1 14 = .ok (.goto 4, 3) := dk_167 0 4 (dk_at dksJ10_isLatin1_0 14 rfl rfl)
theorem dJ10_isLatin1_17 : decode cJ10_isLatin1 17 = .ok (.iconst 0, 1) := dk_3 (dk_at dksJ10_isLatin1_0 17 rfl rfl)
theorem dJ10_isLatin1_18 : decode cJ10_isLatin1 18 = .ok (.ireturn, 1) := dk_172 (dk_at dksJ10_isLatin1_0 18 rfl rfl)
abbrev cJ10_getValue : ByteArray := prog_18_method_64_code
def yJ10_getValue : MethodName := ⟨RJ10, "getValue", "()[B"⟩
theorem dJ10_getValue_0 : decode cJ10_getValue 0 = .ok (.aload_n 0, 1) := by decide +kernel
theorem dJ10_getValue_1 : decode cJ10_getValue 1 = .ok (.getfield 15, 3) := by decide +kernel
theorem dJ10_getValue_4 : decode cJ10_getValue 4 = .ok (.areturn, 1) := by decide +kernel
abbrev cJ10_length : ByteArray := prog_18_method_6_code
def yJ10_length : MethodName := ⟨RJ10, "length", "()I"⟩
theorem dJ10_length_0 : decode cJ10_length 0 = .ok (.aload_n 0, 1) := by decide +kernel
theorem dJ10_length_1 : decode cJ10_length 1 = .ok (.getfield 79, 3) := by decide +kernel
theorem dJ10_length_4 : decode cJ10_length 4 = .ok (.ireturn, 1) := by decide +kernel
abbrev cJ10_append_3 : ByteArray := prog_18_method_31_code
def yJ10_append_3 : MethodName := ⟨RJ10, "append", "(C)Ljava/lang/AbstractStringBuilder;"⟩
def dkwJ10_append_3_3 : List UInt8 := [181, 0, 79, 27, 184, 0, 197, 42, 176]
abbrev dktJ10_append_3_3 : List UInt8 := dkwJ10_append_3_3 ++ []
def dkwJ10_append_3_2 : List UInt8 := [182, 0, 83, 153, 0, 7, 42, 182, 0, 195, 42, 180, 0, 15, 42, 89, 180, 0, 79, 90, 4, 96]
abbrev dktJ10_append_3_2 : List UInt8 := dkwJ10_append_3_2 ++ dktJ10_append_3_3
def dkwJ10_append_3_1 : List UInt8 := [42, 180, 0, 15, 42, 89, 180, 0, 79, 90, 4, 96, 181, 0, 79, 27, 145, 84, 167, 0, 33, 42]
abbrev dktJ10_append_3_1 : List UInt8 := dkwJ10_append_3_1 ++ dktJ10_append_3_2
def dkwJ10_append_3_0 : List UInt8 := [42, 42, 180, 0, 79, 4, 96, 182, 0, 100, 42, 182, 0, 83, 153, 0, 31, 27, 184, 0, 191, 153, 0, 24]
abbrev dktJ10_append_3_0 : List UInt8 := dkwJ10_append_3_0 ++ dktJ10_append_3_1
theorem dksJ10_append_3_0 : cJ10_append_3.data.toList.drop 0 = dktJ10_append_3_0 := by decide +kernel
theorem dksJ10_append_3_1 : cJ10_append_3.data.toList.drop 24 = dktJ10_append_3_1 := dk_seg dksJ10_append_3_0 24 rfl rfl
theorem dksJ10_append_3_2 : cJ10_append_3.data.toList.drop 46 = dktJ10_append_3_2 := dk_seg dksJ10_append_3_1 22 rfl rfl
theorem dksJ10_append_3_3 : cJ10_append_3.data.toList.drop 68 = dktJ10_append_3_3 := dk_seg dksJ10_append_3_2 22 rfl rfl
theorem dJ10_append_3_0 : decode cJ10_append_3 0 = .ok (.aload_n 0, 1) := dk_42 (dk_at dksJ10_append_3_0 0 rfl rfl)
theorem dJ10_append_3_1 : decode cJ10_append_3 1 = .ok (.aload_n 0, 1) := dk_42 (dk_at dksJ10_append_3_0 1 rfl rfl)
theorem dJ10_append_3_2 : decode cJ10_append_3 2 = .ok (.getfield 79, 3) := dk_180 0 79 (dk_at dksJ10_append_3_0 2 rfl rfl)
theorem dJ10_append_3_5 : decode cJ10_append_3 5 = .ok (.iconst 1, 1) := dk_4 (dk_at dksJ10_append_3_0 5 rfl rfl)
theorem dJ10_append_3_6 : decode cJ10_append_3 6 = .ok (.iadd, 1) := dk_96 (dk_at dksJ10_append_3_0 6 rfl rfl)
theorem dJ10_append_3_7 : decode cJ10_append_3 7 = .ok (.invokevirtual 100, 3) := dk_182 0 100 (dk_at dksJ10_append_3_0 7 rfl rfl)
theorem dJ10_append_3_10 : decode cJ10_append_3 10 = .ok (.aload_n 0, 1) := dk_42 (dk_at dksJ10_append_3_0 10 rfl rfl)
theorem dJ10_append_3_11 : decode cJ10_append_3 11 = .ok (.invokevirtual 83, 3) := dk_182 0 83 (dk_at dksJ10_append_3_0 11 rfl rfl)
theorem dJ10_append_3_14 : decode cJ10_append_3 14 = .ok (.ifCond .eq 31, 3) := dk_153 0 31 (dk_at dksJ10_append_3_0 14 rfl rfl)
theorem dJ10_append_3_17 : decode cJ10_append_3 17 = .ok (.iload_n 1, 1) := dk_27 (dk_at dksJ10_append_3_0 17 rfl rfl)
theorem dJ10_append_3_18 : decode cJ10_append_3 18 = .ok (.invokestatic 191, 3) := dk_184 0 191 (dk_at dksJ10_append_3_0 18 rfl rfl)
theorem dJ10_append_3_21 : decode cJ10_append_3 21 = .ok (.ifCond .eq 24, 3) := dk_153 0 24 (dk_at dksJ10_append_3_0 21 rfl rfl)
theorem dJ10_append_3_24 : decode cJ10_append_3 24 = .ok (.aload_n 0, 1) := dk_42 (dk_at dksJ10_append_3_1 0 rfl rfl)
theorem dJ10_append_3_25 : decode cJ10_append_3 25 = .ok (.getfield 15, 3) := dk_180 0 15 (dk_at dksJ10_append_3_1 1 rfl rfl)
theorem dJ10_append_3_28 : decode cJ10_append_3 28 = .ok (.aload_n 0, 1) := dk_42 (dk_at dksJ10_append_3_1 4 rfl rfl)
theorem dJ10_append_3_29 : decode cJ10_append_3 29 = .ok (.dup, 1) := dk_89 (dk_at dksJ10_append_3_1 5 rfl rfl)
theorem dJ10_append_3_30 : decode cJ10_append_3 30 = .ok (.getfield 79, 3) := dk_180 0 79 (dk_at dksJ10_append_3_1 6 rfl rfl)
theorem dJ10_append_3_33 : decode cJ10_append_3 33 = .ok (.dup_x1, 1) := dk_90 (dk_at dksJ10_append_3_1 9 rfl rfl)
theorem dJ10_append_3_34 : decode cJ10_append_3 34 = .ok (.iconst 1, 1) := dk_4 (dk_at dksJ10_append_3_1 10 rfl rfl)
theorem dJ10_append_3_35 : decode cJ10_append_3 35 = .ok (.iadd, 1) := dk_96 (dk_at dksJ10_append_3_1 11 rfl rfl)
theorem dJ10_append_3_36 : decode cJ10_append_3 36 = .ok (.putfield 79, 3) := dk_181 0 79 (dk_at dksJ10_append_3_1 12 rfl rfl)
theorem dJ10_append_3_39 : decode cJ10_append_3 39 = .ok (.iload_n 1, 1) := dk_27 (dk_at dksJ10_append_3_1 15 rfl rfl)
theorem dJ10_append_3_40 : decode cJ10_append_3 40 = .ok (.i2b, 1) := dk_145 (dk_at dksJ10_append_3_1 16 rfl rfl)
theorem dJ10_append_3_41 : decode cJ10_append_3 41 = .ok (.bastore, 1) := dk_84 (dk_at dksJ10_append_3_1 17 rfl rfl)
theorem dJ10_append_3_42 : decode cJ10_append_3 42 = .ok (.goto 33, 3) := dk_167 0 33 (dk_at dksJ10_append_3_1 18 rfl rfl)
theorem dJ10_append_3_45 : decode cJ10_append_3 45 = .ok (.aload_n 0, 1) := dk_42 (dk_at dksJ10_append_3_1 21 rfl rfl)
theorem dJ10_append_3_46 : decode cJ10_append_3 46 = .ok (.invokevirtual 83, 3) := dk_182 0 83 (dk_at dksJ10_append_3_2 0 rfl rfl)
theorem dJ10_append_3_49 : decode cJ10_append_3 49 = .ok (.ifCond .eq 7, 3) := dk_153 0 7 (dk_at dksJ10_append_3_2 3 rfl rfl)
theorem dJ10_append_3_52 : decode cJ10_append_3 52 = .ok (.aload_n 0, 1) := dk_42 (dk_at dksJ10_append_3_2 6 rfl rfl)
theorem dJ10_append_3_53 : decode cJ10_append_3 53 = .ok (.invokevirtual 195, 3) := dk_182 0 195 (dk_at dksJ10_append_3_2 7 rfl rfl)
theorem dJ10_append_3_56 : decode cJ10_append_3 56 = .ok (.aload_n 0, 1) := dk_42 (dk_at dksJ10_append_3_2 10 rfl rfl)
theorem dJ10_append_3_57 : decode cJ10_append_3 57 = .ok (.getfield 15, 3) := dk_180 0 15 (dk_at dksJ10_append_3_2 11 rfl rfl)
theorem dJ10_append_3_60 : decode cJ10_append_3 60 = .ok (.aload_n 0, 1) := dk_42 (dk_at dksJ10_append_3_2 14 rfl rfl)
theorem dJ10_append_3_61 : decode cJ10_append_3 61 = .ok (.dup, 1) := dk_89 (dk_at dksJ10_append_3_2 15 rfl rfl)
theorem dJ10_append_3_62 : decode cJ10_append_3 62 = .ok (.getfield 79, 3) := dk_180 0 79 (dk_at dksJ10_append_3_2 16 rfl rfl)
theorem dJ10_append_3_65 : decode cJ10_append_3 65 = .ok (.dup_x1, 1) := dk_90 (dk_at dksJ10_append_3_2 19 rfl rfl)
theorem dJ10_append_3_66 : decode cJ10_append_3 66 = .ok (.iconst 1, 1) := dk_4 (dk_at dksJ10_append_3_2 20 rfl rfl)
theorem dJ10_append_3_67 : decode cJ10_append_3 67 = .ok (.iadd, 1) := dk_96 (dk_at dksJ10_append_3_2 21 rfl rfl)
theorem dJ10_append_3_68 : decode cJ10_append_3 68 = .ok (.putfield 79, 3) := dk_181 0 79 (dk_at dksJ10_append_3_3 0 rfl rfl)
theorem dJ10_append_3_71 : decode cJ10_append_3 71 = .ok (.iload_n 1, 1) := dk_27 (dk_at dksJ10_append_3_3 3 rfl rfl)
theorem dJ10_append_3_72 : decode cJ10_append_3 72 = .ok (.invokestatic 197, 3) := dk_184 0 197 (dk_at dksJ10_append_3_3 4 rfl rfl)
theorem dJ10_append_3_75 : decode cJ10_append_3 75 = .ok (.aload_n 0, 1) := dk_42 (dk_at dksJ10_append_3_3 7 rfl rfl)
theorem dJ10_append_3_76 : decode cJ10_append_3 76 = .ok (.areturn, 1) := dk_176 (dk_at dksJ10_append_3_3 8 rfl rfl)
abbrev cJ10_charAt : ByteArray := prog_18_method_14_code
def yJ10_charAt : MethodName := ⟨RJ10, "charAt", "(I)C"⟩
def dkwJ10_charAt_1 : List UInt8 := [21, 4, 184, 0, 144, 28, 154, 0, 12, 45, 27, 51, 17, 0, 255, 126, 146, 172, 45, 27, 184, 0, 148, 172]
abbrev dktJ10_charAt_1 : List UInt8 := dkwJ10_charAt_1 ++ []
def dkwJ10_charAt_0 : List UInt8 := [42, 180, 0, 22, 61, 42, 180, 0, 15, 78, 42, 180, 0, 79, 45, 190, 28, 122, 184, 0, 138, 54, 4, 27]
abbrev dktJ10_charAt_0 : List UInt8 := dkwJ10_charAt_0 ++ dktJ10_charAt_1
theorem dksJ10_charAt_0 : cJ10_charAt.data.toList.drop 0 = dktJ10_charAt_0 := by decide +kernel
theorem dksJ10_charAt_1 : cJ10_charAt.data.toList.drop 24 = dktJ10_charAt_1 := dk_seg dksJ10_charAt_0 24 rfl rfl
theorem dJ10_charAt_0 : decode cJ10_charAt 0 = .ok (.aload_n 0, 1) := dk_42 (dk_at dksJ10_charAt_0 0 rfl rfl)
theorem dJ10_charAt_1 : decode cJ10_charAt 1 = .ok (.getfield 22, 3) := dk_180 0 22 (dk_at dksJ10_charAt_0 1 rfl rfl)
theorem dJ10_charAt_4 : decode cJ10_charAt 4 = .ok (.istore_n 2, 1) := dk_61 (dk_at dksJ10_charAt_0 4 rfl rfl)
theorem dJ10_charAt_5 : decode cJ10_charAt 5 = .ok (.aload_n 0, 1) := dk_42 (dk_at dksJ10_charAt_0 5 rfl rfl)
theorem dJ10_charAt_6 : decode cJ10_charAt 6 = .ok (.getfield 15, 3) := dk_180 0 15 (dk_at dksJ10_charAt_0 6 rfl rfl)
theorem dJ10_charAt_9 : decode cJ10_charAt 9 = .ok (.astore_n 3, 1) := dk_78 (dk_at dksJ10_charAt_0 9 rfl rfl)
theorem dJ10_charAt_10 : decode cJ10_charAt 10 = .ok (.aload_n 0, 1) := dk_42 (dk_at dksJ10_charAt_0 10 rfl rfl)
theorem dJ10_charAt_11 : decode cJ10_charAt 11 = .ok (.getfield 79, 3) := dk_180 0 79 (dk_at dksJ10_charAt_0 11 rfl rfl)
theorem dJ10_charAt_14 : decode cJ10_charAt 14 = .ok (.aload_n 3, 1) := dk_45 (dk_at dksJ10_charAt_0 14 rfl rfl)
theorem dJ10_charAt_15 : decode cJ10_charAt 15 = .ok (.arraylength, 1) := dk_190 (dk_at dksJ10_charAt_0 15 rfl rfl)
theorem dJ10_charAt_16 : decode cJ10_charAt 16 = .ok (.iload_n 2, 1) := dk_28 (dk_at dksJ10_charAt_0 16 rfl rfl)
theorem dJ10_charAt_17 : decode cJ10_charAt 17 = .ok (.ishr, 1) := dk_122 (dk_at dksJ10_charAt_0 17 rfl rfl)
theorem dJ10_charAt_18 : decode cJ10_charAt 18 = .ok (.invokestatic 138, 3) := dk_184 0 138 (dk_at dksJ10_charAt_0 18 rfl rfl)
theorem dJ10_charAt_21 : decode cJ10_charAt 21 = .ok (.istore 4, 2) := dk_54 4 (dk_at dksJ10_charAt_0 21 rfl rfl)
theorem dJ10_charAt_23 : decode cJ10_charAt 23 = .ok (.iload_n 1, 1) := dk_27 (dk_at dksJ10_charAt_0 23 rfl rfl)
theorem dJ10_charAt_24 : decode cJ10_charAt 24 = .ok (.iload 4, 2) := dk_21 4 (dk_at dksJ10_charAt_1 0 rfl rfl)
theorem dJ10_charAt_26 : decode cJ10_charAt 26 = .ok (.invokestatic 144, 3) := dk_184 0 144 (dk_at dksJ10_charAt_1 2 rfl rfl)
theorem dJ10_charAt_29 : decode cJ10_charAt 29 = .ok (.iload_n 2, 1) := dk_28 (dk_at dksJ10_charAt_1 5 rfl rfl)
theorem dJ10_charAt_30 : decode cJ10_charAt 30 = .ok (.ifCond .ne 12, 3) := dk_154 0 12 (dk_at dksJ10_charAt_1 6 rfl rfl)
theorem dJ10_charAt_33 : decode cJ10_charAt 33 = .ok (.aload_n 3, 1) := dk_45 (dk_at dksJ10_charAt_1 9 rfl rfl)
theorem dJ10_charAt_34 : decode cJ10_charAt 34 = .ok (.iload_n 1, 1) := dk_27 (dk_at dksJ10_charAt_1 10 rfl rfl)
theorem dJ10_charAt_35 : decode cJ10_charAt 35 = .ok (.baload, 1) := dk_51 (dk_at dksJ10_charAt_1 11 rfl rfl)
theorem dJ10_charAt_36 : decode cJ10_charAt 36 = .ok (.sipush 255, 3) := dk_17 0 255 (dk_at dksJ10_charAt_1 12 rfl rfl)
theorem dJ10_charAt_39 : decode cJ10_charAt 39 = .ok (.iand, 1) := dk_126 (dk_at dksJ10_charAt_1 15 rfl rfl)
theorem dJ10_charAt_40 : decode cJ10_charAt 40 = .ok (.i2c, 1) := dk_146 (dk_at dksJ10_charAt_1 16 rfl rfl)
theorem dJ10_charAt_41 : decode cJ10_charAt 41 = .ok (.ireturn, 1) := dk_172 (dk_at dksJ10_charAt_1 17 rfl rfl)
theorem dJ10_charAt_42 : decode cJ10_charAt 42 = .ok (.aload_n 3, 1) := dk_45 (dk_at dksJ10_charAt_1 18 rfl rfl)
theorem dJ10_charAt_43 : decode cJ10_charAt 43 = .ok (.iload_n 1, 1) := dk_27 (dk_at dksJ10_charAt_1 19 rfl rfl)
theorem dJ10_charAt_44 : decode cJ10_charAt 44 = .ok (.invokestatic 148, 3) := dk_184 0 148 (dk_at dksJ10_charAt_1 20 rfl rfl)
theorem dJ10_charAt_47 : decode cJ10_charAt 47 = .ok (.ireturn, 1) := dk_172 (dk_at dksJ10_charAt_1 23 rfl rfl)
abbrev cJ10_setLength : ByteArray := prog_18_method_13_code
def yJ10_setLength : MethodName := ⟨RJ10, "setLength", "(I)V"⟩
def dkwJ10_setLength_3 : List UInt8 := [164, 0, 8, 42, 4, 181, 0, 73, 42, 27, 181, 0, 79, 177]
abbrev dktJ10_setLength_3 : List UInt8 := dkwJ10_setLength_3 ++ []
def dkwJ10_setLength_2 : List UInt8 := [167, 0, 31, 42, 180, 0, 15, 42, 180, 0, 79, 27, 184, 0, 137, 167, 0, 16, 42, 180, 0, 79, 27]
abbrev dktJ10_setLength_2 : List UInt8 := dkwJ10_setLength_2 ++ dktJ10_setLength_3
def dkwJ10_setLength_1 : List UInt8 := [162, 0, 40, 42, 182, 0, 83, 153, 0, 18, 42, 180, 0, 15, 42, 180, 0, 79, 27, 184, 0, 133]
abbrev dktJ10_setLength_1 : List UInt8 := dkwJ10_setLength_1 ++ dktJ10_setLength_2
def dkwJ10_setLength_0 : List UInt8 := [27, 156, 0, 12, 187, 0, 129, 89, 27, 183, 0, 131, 191, 42, 27, 182, 0, 100, 42, 180, 0, 79, 27]
abbrev dktJ10_setLength_0 : List UInt8 := dkwJ10_setLength_0 ++ dktJ10_setLength_1
theorem dksJ10_setLength_0 : cJ10_setLength.data.toList.drop 0 = dktJ10_setLength_0 := by decide +kernel
theorem dksJ10_setLength_1 : cJ10_setLength.data.toList.drop 23 = dktJ10_setLength_1 := dk_seg dksJ10_setLength_0 23 rfl rfl
theorem dksJ10_setLength_2 : cJ10_setLength.data.toList.drop 45 = dktJ10_setLength_2 := dk_seg dksJ10_setLength_1 22 rfl rfl
theorem dksJ10_setLength_3 : cJ10_setLength.data.toList.drop 68 = dktJ10_setLength_3 := dk_seg dksJ10_setLength_2 23 rfl rfl
theorem dJ10_setLength_0 : decode cJ10_setLength 0 = .ok (.iload_n 1, 1) := dk_27 (dk_at dksJ10_setLength_0 0 rfl rfl)
theorem dJ10_setLength_1 : decode cJ10_setLength 1 = .ok (.ifCond .ge 12, 3) := dk_156 0 12 (dk_at dksJ10_setLength_0 1 rfl rfl)
theorem dJ10_setLength_4 : decode cJ10_setLength 4 = .ok (.new 129, 3) := dk_187 0 129 (dk_at dksJ10_setLength_0 4 rfl rfl)
theorem dJ10_setLength_7 : decode cJ10_setLength 7 = .ok (.dup, 1) := dk_89 (dk_at dksJ10_setLength_0 7 rfl rfl)
theorem dJ10_setLength_8 : decode cJ10_setLength 8 = .ok (.iload_n 1, 1) := dk_27 (dk_at dksJ10_setLength_0 8 rfl rfl)
theorem dJ10_setLength_9 : decode cJ10_setLength 9 = .ok (.invokespecial 131, 3) := dk_183 0 131 (dk_at dksJ10_setLength_0 9 rfl rfl)
theorem dJ10_setLength_12 : decode cJ10_setLength 12 = .ok (.athrow, 1) := dk_191 (dk_at dksJ10_setLength_0 12 rfl rfl)
theorem dJ10_setLength_13 : decode cJ10_setLength 13 = .ok (.aload_n 0, 1) := dk_42 (dk_at dksJ10_setLength_0 13 rfl rfl)
theorem dJ10_setLength_14 : decode cJ10_setLength 14 = .ok (.iload_n 1, 1) := dk_27 (dk_at dksJ10_setLength_0 14 rfl rfl)
theorem dJ10_setLength_15 : decode cJ10_setLength 15 = .ok (.invokevirtual 100, 3) := dk_182 0 100 (dk_at dksJ10_setLength_0 15 rfl rfl)
theorem dJ10_setLength_18 : decode cJ10_setLength 18 = .ok (.aload_n 0, 1) := dk_42 (dk_at dksJ10_setLength_0 18 rfl rfl)
theorem dJ10_setLength_19 : decode cJ10_setLength 19 = .ok (.getfield 79, 3) := dk_180 0 79 (dk_at dksJ10_setLength_0 19 rfl rfl)
theorem dJ10_setLength_22 : decode cJ10_setLength 22 = .ok (.iload_n 1, 1) := dk_27 (dk_at dksJ10_setLength_0 22 rfl rfl)
theorem dJ10_setLength_23 : decode cJ10_setLength 23 = .ok (.if_icmp .ge 40, 3) := dk_162 0 40 (dk_at dksJ10_setLength_1 0 rfl rfl)
theorem dJ10_setLength_26 : decode cJ10_setLength 26 = .ok (.aload_n 0, 1) := dk_42 (dk_at dksJ10_setLength_1 3 rfl rfl)
theorem dJ10_setLength_27 : decode cJ10_setLength 27 = .ok (.invokevirtual 83, 3) := dk_182 0 83 (dk_at dksJ10_setLength_1 4 rfl rfl)
theorem dJ10_setLength_30 : decode cJ10_setLength 30 = .ok (.ifCond .eq 18, 3) := dk_153 0 18 (dk_at dksJ10_setLength_1 7 rfl rfl)
theorem dJ10_setLength_33 : decode cJ10_setLength 33 = .ok (.aload_n 0, 1) := dk_42 (dk_at dksJ10_setLength_1 10 rfl rfl)
theorem dJ10_setLength_34 : decode cJ10_setLength 34 = .ok (.getfield 15, 3) := dk_180 0 15 (dk_at dksJ10_setLength_1 11 rfl rfl)
theorem dJ10_setLength_37 : decode cJ10_setLength 37 = .ok (.aload_n 0, 1) := dk_42 (dk_at dksJ10_setLength_1 14 rfl rfl)
theorem dJ10_setLength_38 : decode cJ10_setLength 38 = .ok (.getfield 79, 3) := dk_180 0 79 (dk_at dksJ10_setLength_1 15 rfl rfl)
theorem dJ10_setLength_41 : decode cJ10_setLength 41 = .ok (.iload_n 1, 1) := dk_27 (dk_at dksJ10_setLength_1 18 rfl rfl)
theorem dJ10_setLength_42 : decode cJ10_setLength 42 = .ok (.invokestatic 133, 3) := dk_184 0 133 (dk_at dksJ10_setLength_1 19 rfl rfl)
theorem dJ10_setLength_45 : decode cJ10_setLength 45 = .ok (.goto 31, 3) := dk_167 0 31 (dk_at dksJ10_setLength_2 0 rfl rfl)
theorem dJ10_setLength_48 : decode cJ10_setLength 48 = .ok (.aload_n 0, 1) := dk_42 (dk_at dksJ10_setLength_2 3 rfl rfl)
theorem dJ10_setLength_49 : decode cJ10_setLength 49 = .ok (.getfield 15, 3) := dk_180 0 15 (dk_at dksJ10_setLength_2 4 rfl rfl)
theorem dJ10_setLength_52 : decode cJ10_setLength 52 = .ok (.aload_n 0, 1) := dk_42 (dk_at dksJ10_setLength_2 7 rfl rfl)
theorem dJ10_setLength_53 : decode cJ10_setLength 53 = .ok (.getfield 79, 3) := dk_180 0 79 (dk_at dksJ10_setLength_2 8 rfl rfl)
theorem dJ10_setLength_56 : decode cJ10_setLength 56 = .ok (.iload_n 1, 1) := dk_27 (dk_at dksJ10_setLength_2 11 rfl rfl)
theorem dJ10_setLength_57 : decode cJ10_setLength 57 = .ok (.invokestatic 137, 3) := dk_184 0 137 (dk_at dksJ10_setLength_2 12 rfl rfl)
theorem dJ10_setLength_60 : decode cJ10_setLength 60 = .ok (.goto 16, 3) := dk_167 0 16 (dk_at dksJ10_setLength_2 15 rfl rfl)
theorem dJ10_setLength_63 : decode cJ10_setLength 63 = .ok (.aload_n 0, 1) := dk_42 (dk_at dksJ10_setLength_2 18 rfl rfl)
theorem dJ10_setLength_64 : decode cJ10_setLength 64 = .ok (.getfield 79, 3) := dk_180 0 79 (dk_at dksJ10_setLength_2 19 rfl rfl)
theorem dJ10_setLength_67 : decode cJ10_setLength 67 = .ok (.iload_n 1, 1) := dk_27 (dk_at dksJ10_setLength_2 22 rfl rfl)
theorem dJ10_setLength_68 : decode cJ10_setLength 68 = .ok (.if_icmp .le 8, 3) := dk_164 0 8 (dk_at dksJ10_setLength_3 0 rfl rfl)
theorem dJ10_setLength_71 : decode cJ10_setLength 71 = .ok (.aload_n 0, 1) := dk_42 (dk_at dksJ10_setLength_3 3 rfl rfl)
theorem dJ10_setLength_72 : decode cJ10_setLength 72 = .ok (.iconst 1, 1) := dk_4 (dk_at dksJ10_setLength_3 4 rfl rfl)
theorem dJ10_setLength_73 : decode cJ10_setLength 73 = .ok (.putfield 73, 3) := dk_181 0 73 (dk_at dksJ10_setLength_3 5 rfl rfl)
theorem dJ10_setLength_76 : decode cJ10_setLength 76 = .ok (.aload_n 0, 1) := dk_42 (dk_at dksJ10_setLength_3 8 rfl rfl)
theorem dJ10_setLength_77 : decode cJ10_setLength 77 = .ok (.iload_n 1, 1) := dk_27 (dk_at dksJ10_setLength_3 9 rfl rfl)
theorem dJ10_setLength_78 : decode cJ10_setLength 78 = .ok (.putfield 79, 3) := dk_181 0 79 (dk_at dksJ10_setLength_3 10 rfl rfl)
theorem dJ10_setLength_81 : decode cJ10_setLength 81 = .ok (.return_, 1) := dk_177 (dk_at dksJ10_setLength_3 13 rfl rfl)
abbrev cJ12_length : ByteArray := prog_35_method_54_code
def yJ12_length : MethodName := ⟨RJ12, "length", "()I"⟩
def dkwJ12_length_0 : List UInt8 := [42, 180, 0, 9, 190, 42, 182, 1, 79, 122, 172]
abbrev dktJ12_length_0 : List UInt8 := dkwJ12_length_0 ++ []
theorem dksJ12_length_0 : cJ12_length.data.toList.drop 0 = dktJ12_length_0 := by decide +kernel
theorem dJ12_length_0 : decode cJ12_length 0 = .ok (.aload_n 0, 1) := dk_42 (dk_at dksJ12_length_0 0 rfl rfl)
theorem dJ12_length_1 : decode cJ12_length 1 = .ok (.getfield 9, 3) := dk_180 0 9 (dk_at dksJ12_length_0 1 rfl rfl)
theorem dJ12_length_4 : decode cJ12_length 4 = .ok (.arraylength, 1) := dk_190 (dk_at dksJ12_length_0 4 rfl rfl)
theorem dJ12_length_5 : decode cJ12_length 5 = .ok (.aload_n 0, 1) := dk_42 (dk_at dksJ12_length_0 5 rfl rfl)
theorem dJ12_length_6 : decode cJ12_length 6 = .ok (.invokevirtual 335, 3) := dk_182 1 79 (dk_at dksJ12_length_0 6 rfl rfl)
theorem dJ12_length_9 : decode cJ12_length 9 = .ok (.ishr, 1) := dk_122 (dk_at dksJ12_length_0 9 rfl rfl)
theorem dJ12_length_10 : decode cJ12_length 10 = .ok (.ireturn, 1) := dk_172 (dk_at dksJ12_length_0 10 rfl rfl)
abbrev cJ12_coder : ByteArray := prog_35_method_152_code
def yJ12_coder : MethodName := ⟨RJ12, "coder", "()B"⟩
def dkwJ12_coder_0 : List UInt8 := [178, 0, 38, 153, 0, 10, 42, 180, 0, 15, 167, 0, 4, 4, 172]
abbrev dktJ12_coder_0 : List UInt8 := dkwJ12_coder_0 ++ []
theorem dksJ12_coder_0 : cJ12_coder.data.toList.drop 0 = dktJ12_coder_0 := by decide +kernel
theorem dJ12_coder_0 : decode cJ12_coder 0 = .ok (.getstatic 38, 3) := dk_178 0 38 (dk_at dksJ12_coder_0 0 rfl rfl)
theorem dJ12_coder_3 : decode cJ12_coder 3 = .ok (.ifCond .eq 10, 3) := dk_153 0 10 (dk_at dksJ12_coder_0 3 rfl rfl)
theorem dJ12_coder_6 : decode cJ12_coder 6 = .ok (.aload_n 0, 1) := dk_42 (dk_at dksJ12_coder_0 6 rfl rfl)
theorem dJ12_coder_7 : decode cJ12_coder 7 = .ok (.getfield 15, 3) := dk_180 0 15 (dk_at dksJ12_coder_0 7 rfl rfl)
theorem dJ12_coder_10 : decode cJ12_coder 10 = .ok (.goto 4, 3) := dk_167 0 4 (dk_at dksJ12_coder_0 10 rfl rfl)
theorem dJ12_coder_13 : decode cJ12_coder 13 = .ok (.iconst 1, 1) := dk_4 (dk_at dksJ12_coder_0 13 rfl rfl)
theorem dJ12_coder_14 : decode cJ12_coder 14 = .ok (.ireturn, 1) := dk_172 (dk_at dksJ12_coder_0 14 rfl rfl)
abbrev cJ12_init : ByteArray := prog_35_method_53_code
def yJ12_init : MethodName := ⟨RJ12, "<init>", "(Ljava/lang/StringBuilder;)V"⟩
def dkwJ12_init_0 : List UInt8 := [42, 43, 1, 183, 1, 233, 177]
abbrev dktJ12_init_0 : List UInt8 := dkwJ12_init_0 ++ []
theorem dksJ12_init_0 : cJ12_init.data.toList.drop 0 = dktJ12_init_0 := by decide +kernel
theorem dJ12_init_0 : decode cJ12_init 0 = .ok (.aload_n 0, 1) := dk_42 (dk_at dksJ12_init_0 0 rfl rfl)
theorem dJ12_init_1 : decode cJ12_init 1 = .ok (.aload_n 1, 1) := dk_43 (dk_at dksJ12_init_0 1 rfl rfl)
theorem dJ12_init_2 : decode cJ12_init 2 = .ok (.aconst_null, 1) := dk_1 (dk_at dksJ12_init_0 2 rfl rfl)
theorem dJ12_init_3 : decode cJ12_init 3 = .ok (.invokespecial 489, 3) := dk_183 1 233 (dk_at dksJ12_init_0 3 rfl rfl)
theorem dJ12_init_6 : decode cJ12_init 6 = .ok (.return_, 1) := dk_177 (dk_at dksJ12_init_0 6 rfl rfl)
abbrev cJ12_init_2 : ByteArray := prog_35_method_150_code
def yJ12_init_2 : MethodName := ⟨RJ12, "<init>", "(Ljava/lang/AbstractStringBuilder;Ljava/lang/Void;)V"⟩
def dkwJ12_init_2_4 : List UInt8 := [181, 0, 9, 177]
abbrev dktJ12_init_2_4 : List UInt8 := dkwJ12_init_2_4 ++ []
def dkwJ12_init_2_3 : List UInt8 := [184, 0, 47, 181, 0, 15, 177, 42, 4, 181, 0, 15, 42, 45, 3, 21, 4, 4, 120, 184, 0, 54]
abbrev dktJ12_init_2_3 : List UInt8 := dkwJ12_init_2_3 ++ dktJ12_init_2_4
def dkwJ12_init_2_2 : List UInt8 := [180, 4, 24, 153, 0, 28, 42, 45, 3, 21, 4, 184, 4, 27, 181, 0, 9, 42, 42, 180, 0, 9, 21, 4]
abbrev dktJ12_init_2_2 : List UInt8 := dkwJ12_init_2_2 ++ dktJ12_init_2_3
def dkwJ12_init_2_1 : List UInt8 := [181, 0, 15, 42, 45, 3, 21, 4, 184, 0, 54, 181, 0, 9, 167, 0, 59, 178, 0, 38, 153, 0, 35, 43]
abbrev dktJ12_init_2_1 : List UInt8 := dkwJ12_init_2_1 ++ dktJ12_init_2_2
def dkwJ12_init_2_0 : List UInt8 := [42, 183, 0, 1, 43, 182, 2, 40, 78, 43, 182, 2, 37, 54, 4, 43, 182, 4, 23, 153, 0, 22, 42, 3]
abbrev dktJ12_init_2_0 : List UInt8 := dkwJ12_init_2_0 ++ dktJ12_init_2_1
theorem dksJ12_init_2_0 : cJ12_init_2.data.toList.drop 0 = dktJ12_init_2_0 := by decide +kernel
theorem dksJ12_init_2_1 : cJ12_init_2.data.toList.drop 24 = dktJ12_init_2_1 := dk_seg dksJ12_init_2_0 24 rfl rfl
theorem dksJ12_init_2_2 : cJ12_init_2.data.toList.drop 48 = dktJ12_init_2_2 := dk_seg dksJ12_init_2_1 24 rfl rfl
theorem dksJ12_init_2_3 : cJ12_init_2.data.toList.drop 72 = dktJ12_init_2_3 := dk_seg dksJ12_init_2_2 24 rfl rfl
theorem dksJ12_init_2_4 : cJ12_init_2.data.toList.drop 94 = dktJ12_init_2_4 := dk_seg dksJ12_init_2_3 22 rfl rfl
theorem dJ12_init_2_0 : decode cJ12_init_2 0 = .ok (.aload_n 0, 1) := dk_42 (dk_at dksJ12_init_2_0 0 rfl rfl)
theorem dJ12_init_2_1 : decode cJ12_init_2 1 = .ok (.invokespecial 1, 3) := dk_183 0 1 (dk_at dksJ12_init_2_0 1 rfl rfl)
theorem dJ12_init_2_4 : decode cJ12_init_2 4 = .ok (.aload_n 1, 1) := dk_43 (dk_at dksJ12_init_2_0 4 rfl rfl)
theorem dJ12_init_2_5 : decode cJ12_init_2 5 = .ok (.invokevirtual 552, 3) := dk_182 2 40 (dk_at dksJ12_init_2_0 5 rfl rfl)
theorem dJ12_init_2_8 : decode cJ12_init_2 8 = .ok (.astore_n 3, 1) := dk_78 (dk_at dksJ12_init_2_0 8 rfl rfl)
theorem dJ12_init_2_9 : decode cJ12_init_2 9 = .ok (.aload_n 1, 1) := dk_43 (dk_at dksJ12_init_2_0 9 rfl rfl)
theorem dJ12_init_2_10 : decode cJ12_init_2 10 = .ok (.invokevirtual 549, 3) := dk_182 2 37 (dk_at dksJ12_init_2_0 10 rfl rfl)
theorem dJ12_init_2_13 : decode cJ12_init_2 13 = .ok (.istore 4, 2) := dk_54 4 (dk_at dksJ12_init_2_0 13 rfl rfl)
theorem dJ12_init_2_15 : decode cJ12_init_2 15 = .ok (.aload_n 1, 1) := dk_43 (dk_at dksJ12_init_2_0 15 rfl rfl)
theorem dJ12_init_2_16 : decode cJ12_init_2 16 = .ok (.invokevirtual 1047, 3) := dk_182 4 23 (dk_at dksJ12_init_2_0 16 rfl rfl)
theorem dJ12_init_2_19 : decode cJ12_init_2 19 = .ok (.ifCond .eq 22, 3) := dk_153 0 22 (dk_at dksJ12_init_2_0 19 rfl rfl)
theorem dJ12_init_2_22 : decode cJ12_init_2 22 = .ok (.aload_n 0, 1) := dk_42 (dk_at dksJ12_init_2_0 22 rfl rfl)
theorem dJ12_init_2_23 : decode cJ12_init_2 23 = .ok (.iconst 0, 1) := dk_3 (dk_at dksJ12_init_2_0 23 rfl rfl)
theorem dJ12_init_2_24 : decode cJ12_init_2 24 = .ok (.putfield 15, 3) := dk_181 0 15 (dk_at dksJ12_init_2_1 0 rfl rfl)
theorem dJ12_init_2_27 : decode cJ12_init_2 27 = .ok (.aload_n 0, 1) := dk_42 (dk_at dksJ12_init_2_1 3 rfl rfl)
theorem dJ12_init_2_28 : decode cJ12_init_2 28 = .ok (.aload_n 3, 1) := dk_45 (dk_at dksJ12_init_2_1 4 rfl rfl)
theorem dJ12_init_2_29 : decode cJ12_init_2 29 = .ok (.iconst 0, 1) := dk_3 (dk_at dksJ12_init_2_1 5 rfl rfl)
theorem dJ12_init_2_30 : decode cJ12_init_2 30 = .ok (.iload 4, 2) := dk_21 4 (dk_at dksJ12_init_2_1 6 rfl rfl)
theorem dJ12_init_2_32 : decode cJ12_init_2 32 = .ok (.invokestatic 54, 3) := dk_184 0 54 (dk_at dksJ12_init_2_1 8 rfl rfl)
theorem dJ12_init_2_35 : decode cJ12_init_2 35 = .ok (.putfield 9, 3) := dk_181 0 9 (dk_at dksJ12_init_2_1 11 rfl rfl)
theorem dJ12_init_2_38 : decode cJ12_init_2 38 = .ok (.goto 59, 3) := dk_167 0 59 (dk_at dksJ12_init_2_1 14 rfl rfl)
theorem dJ12_init_2_41 : decode cJ12_init_2 41 = .ok (.getstatic 38, 3) := dk_178 0 38 (dk_at dksJ12_init_2_1 17 rfl rfl)
theorem dJ12_init_2_44 : decode cJ12_init_2 44 = .ok (.ifCond .eq 35, 3) := dk_153 0 35 (dk_at dksJ12_init_2_1 20 rfl rfl)
theorem dJ12_init_2_47 : decode cJ12_init_2 47 = .ok (.aload_n 1, 1) := dk_43 (dk_at dksJ12_init_2_1 23 rfl rfl)
theorem dJ12_init_2_48 : decode cJ12_init_2 48 = .ok (.getfield 1048, 3) := dk_180 4 24 (dk_at dksJ12_init_2_2 0 rfl rfl)
theorem dJ12_init_2_51 : decode cJ12_init_2 51 = .ok (.ifCond .eq 28, 3) := dk_153 0 28 (dk_at dksJ12_init_2_2 3 rfl rfl)
theorem dJ12_init_2_54 : decode cJ12_init_2 54 = .ok (.aload_n 0, 1) := dk_42 (dk_at dksJ12_init_2_2 6 rfl rfl)
theorem dJ12_init_2_55 : decode cJ12_init_2 55 = .ok (.aload_n 3, 1) := dk_45 (dk_at dksJ12_init_2_2 7 rfl rfl)
theorem dJ12_init_2_56 : decode cJ12_init_2 56 = .ok (.iconst 0, 1) := dk_3 (dk_at dksJ12_init_2_2 8 rfl rfl)
theorem dJ12_init_2_57 : decode cJ12_init_2 57 = .ok (.iload 4, 2) := dk_21 4 (dk_at dksJ12_init_2_2 9 rfl rfl)
theorem dJ12_init_2_59 : decode cJ12_init_2 59 = .ok (.invokestatic 1051, 3) := dk_184 4 27 (dk_at dksJ12_init_2_2 11 rfl rfl)
theorem dJ12_init_2_62 : decode cJ12_init_2 62 = .ok (.putfield 9, 3) := dk_181 0 9 (dk_at dksJ12_init_2_2 14 rfl rfl)
theorem dJ12_init_2_65 : decode cJ12_init_2 65 = .ok (.aload_n 0, 1) := dk_42 (dk_at dksJ12_init_2_2 17 rfl rfl)
theorem dJ12_init_2_66 : decode cJ12_init_2 66 = .ok (.aload_n 0, 1) := dk_42 (dk_at dksJ12_init_2_2 18 rfl rfl)
theorem dJ12_init_2_67 : decode cJ12_init_2 67 = .ok (.getfield 9, 3) := dk_180 0 9 (dk_at dksJ12_init_2_2 19 rfl rfl)
theorem dJ12_init_2_70 : decode cJ12_init_2 70 = .ok (.iload 4, 2) := dk_21 4 (dk_at dksJ12_init_2_2 22 rfl rfl)
theorem dJ12_init_2_72 : decode cJ12_init_2 72 = .ok (.invokestatic 47, 3) := dk_184 0 47 (dk_at dksJ12_init_2_3 0 rfl rfl)
theorem dJ12_init_2_75 : decode cJ12_init_2 75 = .ok (.putfield 15, 3) := dk_181 0 15 (dk_at dksJ12_init_2_3 3 rfl rfl)
theorem dJ12_init_2_78 : decode cJ12_init_2 78 = .ok (.return_, 1) := dk_177 (dk_at dksJ12_init_2_3 6 rfl rfl)
theorem dJ12_init_2_79 : decode cJ12_init_2 79 = .ok (.aload_n 0, 1) := dk_42 (dk_at dksJ12_init_2_3 7 rfl rfl)
theorem dJ12_init_2_80 : decode cJ12_init_2 80 = .ok (.iconst 1, 1) := dk_4 (dk_at dksJ12_init_2_3 8 rfl rfl)
theorem dJ12_init_2_81 : decode cJ12_init_2 81 = .ok (.putfield 15, 3) := dk_181 0 15 (dk_at dksJ12_init_2_3 9 rfl rfl)
theorem dJ12_init_2_84 : decode cJ12_init_2 84 = .ok (.aload_n 0, 1) := dk_42 (dk_at dksJ12_init_2_3 12 rfl rfl)
theorem dJ12_init_2_85 : decode cJ12_init_2 85 = .ok (.aload_n 3, 1) := dk_45 (dk_at dksJ12_init_2_3 13 rfl rfl)
theorem dJ12_init_2_86 : decode cJ12_init_2 86 = .ok (.iconst 0, 1) := dk_3 (dk_at dksJ12_init_2_3 14 rfl rfl)
theorem dJ12_init_2_87 : decode cJ12_init_2 87 = .ok (.iload 4, 2) := dk_21 4 (dk_at dksJ12_init_2_3 15 rfl rfl)
theorem dJ12_init_2_89 : decode cJ12_init_2 89 = .ok (.iconst 1, 1) := dk_4 (dk_at dksJ12_init_2_3 17 rfl rfl)
theorem dJ12_init_2_90 : decode cJ12_init_2 90 = .ok (.ishl, 1) := dk_120 (dk_at dksJ12_init_2_3 18 rfl rfl)
theorem dJ12_init_2_91 : decode cJ12_init_2 91 = .ok (.invokestatic 54, 3) := dk_184 0 54 (dk_at dksJ12_init_2_3 19 rfl rfl)
theorem dJ12_init_2_94 : decode cJ12_init_2 94 = .ok (.putfield 9, 3) := dk_181 0 9 (dk_at dksJ12_init_2_4 0 rfl rfl)
theorem dJ12_init_2_97 : decode cJ12_init_2 97 = .ok (.return_, 1) := dk_177 (dk_at dksJ12_init_2_4 3 rfl rfl)
abbrev cJ12_hashCode : ByteArray := prog_35_method_78_code
def yJ12_hashCode : MethodName := ⟨RJ12, "hashCode", "()I"⟩
def dkwJ12_hashCode_2 : List UInt8 := [181, 0, 23, 167, 0, 8, 42, 27, 181, 0, 19, 27, 172]
abbrev dktJ12_hashCode_2 : List UInt8 := dkwJ12_hashCode_2 ++ []
def dkwJ12_hashCode_1 : List UInt8 := [180, 0, 9, 184, 2, 116, 167, 0, 10, 42, 180, 0, 9, 184, 2, 120, 60, 27, 154, 0, 11, 42, 4]
abbrev dktJ12_hashCode_1 : List UInt8 := dkwJ12_hashCode_1 ++ dktJ12_hashCode_2
def dkwJ12_hashCode_0 : List UInt8 := [42, 180, 0, 19, 60, 27, 154, 0, 52, 42, 180, 0, 23, 154, 0, 45, 42, 182, 1, 236, 153, 0, 13, 42]
abbrev dktJ12_hashCode_0 : List UInt8 := dkwJ12_hashCode_0 ++ dktJ12_hashCode_1
theorem dksJ12_hashCode_0 : cJ12_hashCode.data.toList.drop 0 = dktJ12_hashCode_0 := by decide +kernel
theorem dksJ12_hashCode_1 : cJ12_hashCode.data.toList.drop 24 = dktJ12_hashCode_1 := dk_seg dksJ12_hashCode_0 24 rfl rfl
theorem dksJ12_hashCode_2 : cJ12_hashCode.data.toList.drop 47 = dktJ12_hashCode_2 := dk_seg dksJ12_hashCode_1 23 rfl rfl
theorem dJ12_hashCode_0 : decode cJ12_hashCode 0 = .ok (.aload_n 0, 1) := dk_42 (dk_at dksJ12_hashCode_0 0 rfl rfl)
theorem dJ12_hashCode_1 : decode cJ12_hashCode 1 = .ok (.getfield 19, 3) := dk_180 0 19 (dk_at dksJ12_hashCode_0 1 rfl rfl)
theorem dJ12_hashCode_4 : decode cJ12_hashCode 4 = .ok (.istore_n 1, 1) := dk_60 (dk_at dksJ12_hashCode_0 4 rfl rfl)
theorem dJ12_hashCode_5 : decode cJ12_hashCode 5 = .ok (.iload_n 1, 1) := dk_27 (dk_at dksJ12_hashCode_0 5 rfl rfl)
theorem dJ12_hashCode_6 : decode cJ12_hashCode 6 = .ok (.ifCond .ne 52, 3) := dk_154 0 52 (dk_at dksJ12_hashCode_0 6 rfl rfl)
theorem dJ12_hashCode_9 : decode cJ12_hashCode 9 = .ok (.aload_n 0, 1) := dk_42 (dk_at dksJ12_hashCode_0 9 rfl rfl)
theorem dJ12_hashCode_10 : decode cJ12_hashCode 10 = .ok (.getfield 23, 3) := dk_180 0 23 (dk_at dksJ12_hashCode_0 10 rfl rfl)
theorem dJ12_hashCode_13 : decode cJ12_hashCode 13 = .ok (.ifCond .ne 45, 3) := dk_154 0 45 (dk_at dksJ12_hashCode_0 13 rfl rfl)
theorem dJ12_hashCode_16 : decode cJ12_hashCode 16 = .ok (.aload_n 0, 1) := dk_42 (dk_at dksJ12_hashCode_0 16 rfl rfl)
theorem dJ12_hashCode_17 : decode cJ12_hashCode 17 = .ok (.invokevirtual 492, 3) := dk_182 1 236 (dk_at dksJ12_hashCode_0 17 rfl rfl)
theorem dJ12_hashCode_20 : decode cJ12_hashCode 20 = .ok (.ifCond .eq 13, 3) := dk_153 0 13 (dk_at dksJ12_hashCode_0 20 rfl rfl)
theorem dJ12_hashCode_23 : decode cJ12_hashCode 23 = .ok (.aload_n 0, 1) := dk_42 (dk_at dksJ12_hashCode_0 23 rfl rfl)
theorem dJ12_hashCode_24 : decode cJ12_hashCode 24 = .ok (.getfield 9, 3) := dk_180 0 9 (dk_at dksJ12_hashCode_1 0 rfl rfl)
theorem dJ12_hashCode_27 : decode cJ12_hashCode 27 = .ok (.invokestatic 628, 3) := dk_184 2 116 (dk_at dksJ12_hashCode_1 3 rfl rfl)
theorem dJ12_hashCode_30 : decode cJ12_hashCode 30 = .ok (.goto 10, 3) := dk_167 0 10 (dk_at dksJ12_hashCode_1 6 rfl rfl)
theorem dJ12_hashCode_33 : decode cJ12_hashCode 33 = .ok (.aload_n 0, 1) := dk_42 (dk_at dksJ12_hashCode_1 9 rfl rfl)
theorem dJ12_hashCode_34 : decode cJ12_hashCode 34 = .ok (.getfield 9, 3) := dk_180 0 9 (dk_at dksJ12_hashCode_1 10 rfl rfl)
theorem dJ12_hashCode_37 : decode cJ12_hashCode 37 = .ok (.invokestatic 632, 3) := dk_184 2 120 (dk_at dksJ12_hashCode_1 13 rfl rfl)
theorem dJ12_hashCode_40 : decode cJ12_hashCode 40 = .ok (.istore_n 1, 1) := dk_60 (dk_at dksJ12_hashCode_1 16 rfl rfl)
theorem dJ12_hashCode_41 : decode cJ12_hashCode 41 = .ok (.iload_n 1, 1) := dk_27 (dk_at dksJ12_hashCode_1 17 rfl rfl)
theorem dJ12_hashCode_42 : decode cJ12_hashCode 42 = .ok (.ifCond .ne 11, 3) := dk_154 0 11 (dk_at dksJ12_hashCode_1 18 rfl rfl)
theorem dJ12_hashCode_45 : decode cJ12_hashCode 45 = .ok (.aload_n 0, 1) := dk_42 (dk_at dksJ12_hashCode_1 21 rfl rfl)
theorem dJ12_hashCode_46 : decode cJ12_hashCode 46 = .ok (.iconst 1, 1) := dk_4 (dk_at dksJ12_hashCode_1 22 rfl rfl)
theorem dJ12_hashCode_47 : decode cJ12_hashCode 47 = .ok (.putfield 23, 3) := dk_181 0 23 (dk_at dksJ12_hashCode_2 0 rfl rfl)
theorem dJ12_hashCode_50 : decode cJ12_hashCode 50 = .ok (.goto 8, 3) := dk_167 0 8 (dk_at dksJ12_hashCode_2 3 rfl rfl)
theorem dJ12_hashCode_53 : decode cJ12_hashCode 53 = .ok (.aload_n 0, 1) := dk_42 (dk_at dksJ12_hashCode_2 6 rfl rfl)
theorem dJ12_hashCode_54 : decode cJ12_hashCode 54 = .ok (.iload_n 1, 1) := dk_27 (dk_at dksJ12_hashCode_2 7 rfl rfl)
theorem dJ12_hashCode_55 : decode cJ12_hashCode 55 = .ok (.putfield 19, 3) := dk_181 0 19 (dk_at dksJ12_hashCode_2 8 rfl rfl)
theorem dJ12_hashCode_58 : decode cJ12_hashCode 58 = .ok (.iload_n 1, 1) := dk_27 (dk_at dksJ12_hashCode_2 11 rfl rfl)
theorem dJ12_hashCode_59 : decode cJ12_hashCode 59 = .ok (.ireturn, 1) := dk_172 (dk_at dksJ12_hashCode_2 12 rfl rfl)
abbrev cJ12_isLatin1 : ByteArray := prog_35_method_154_code
def yJ12_isLatin1 : MethodName := ⟨RJ12, "isLatin1", "()Z"⟩
def dkwJ12_isLatin1_0 : List UInt8 := [178, 0, 38, 153, 0, 14, 42, 180, 0, 15, 154, 0, 7, 4, 167, 0, 4, 3, 172]
abbrev dktJ12_isLatin1_0 : List UInt8 := dkwJ12_isLatin1_0 ++ []
theorem dksJ12_isLatin1_0 : cJ12_isLatin1.data.toList.drop 0 = dktJ12_isLatin1_0 := by decide +kernel
theorem dJ12_isLatin1_0 : decode cJ12_isLatin1 0 = .ok (.getstatic 38, 3) := dk_178 0 38 (dk_at dksJ12_isLatin1_0 0 rfl rfl)
theorem dJ12_isLatin1_3 : decode cJ12_isLatin1 3 = .ok (.ifCond .eq 14, 3) := dk_153 0 14 (dk_at dksJ12_isLatin1_0 3 rfl rfl)
theorem dJ12_isLatin1_6 : decode cJ12_isLatin1 6 = .ok (.aload_n 0, 1) := dk_42 (dk_at dksJ12_isLatin1_0 6 rfl rfl)
theorem dJ12_isLatin1_7 : decode cJ12_isLatin1 7 = .ok (.getfield 15, 3) := dk_180 0 15 (dk_at dksJ12_isLatin1_0 7 rfl rfl)
theorem dJ12_isLatin1_10 : decode cJ12_isLatin1 10 = .ok (.ifCond .ne 7, 3) := dk_154 0 7 (dk_at dksJ12_isLatin1_0 10 rfl rfl)
theorem dJ12_isLatin1_13 : decode cJ12_isLatin1 13 = .ok (.iconst 1, 1) := dk_4 (dk_at dksJ12_isLatin1_0 13 rfl rfl)
theorem dJ12_isLatin1_14 : decode cJ12_isLatin1 14 = .ok (.goto 4, 3) := dk_167 0 4 (dk_at dksJ12_isLatin1_0 14 rfl rfl)
theorem dJ12_isLatin1_17 : decode cJ12_isLatin1 17 = .ok (.iconst 0, 1) := dk_3 (dk_at dksJ12_isLatin1_0 17 rfl rfl)
theorem dJ12_isLatin1_18 : decode cJ12_isLatin1 18 = .ok (.ireturn, 1) := dk_172 (dk_at dksJ12_isLatin1_0 18 rfl rfl)
abbrev cJ12_equals : ByteArray := prog_35_method_66_code
def yJ12_equals : MethodName := ⟨RJ12, "equals", "(Ljava/lang/Object;)Z"⟩
def dkwJ12_equals_2 : List UInt8 := [184, 2, 29, 153, 0, 7, 4, 167, 0, 4, 3, 172]
abbrev dktJ12_equals_2 : List UInt8 := dkwJ12_equals_2 ++ []
def dkwJ12_equals_1 : List UInt8 := [153, 0, 14, 42, 180, 0, 15, 44, 180, 0, 15, 160, 0, 21, 42, 180, 0, 9, 44, 180, 0, 9]
abbrev dktJ12_equals_1 : List UInt8 := dkwJ12_equals_1 ++ dktJ12_equals_2
def dkwJ12_equals_0 : List UInt8 := [42, 43, 166, 0, 5, 4, 172, 43, 193, 0, 10, 153, 0, 43, 43, 192, 0, 10, 77, 178, 0, 38]
abbrev dktJ12_equals_0 : List UInt8 := dkwJ12_equals_0 ++ dktJ12_equals_1
theorem dksJ12_equals_0 : cJ12_equals.data.toList.drop 0 = dktJ12_equals_0 := by decide +kernel
theorem dksJ12_equals_1 : cJ12_equals.data.toList.drop 22 = dktJ12_equals_1 := dk_seg dksJ12_equals_0 22 rfl rfl
theorem dksJ12_equals_2 : cJ12_equals.data.toList.drop 44 = dktJ12_equals_2 := dk_seg dksJ12_equals_1 22 rfl rfl
theorem dJ12_equals_0 : decode cJ12_equals 0 = .ok (.aload_n 0, 1) := dk_42 (dk_at dksJ12_equals_0 0 rfl rfl)
theorem dJ12_equals_1 : decode cJ12_equals 1 = .ok (.aload_n 1, 1) := dk_43 (dk_at dksJ12_equals_0 1 rfl rfl)
theorem dJ12_equals_2 : decode cJ12_equals 2 = .ok (.if_acmp .ne 5, 3) := dk_166 0 5 (dk_at dksJ12_equals_0 2 rfl rfl)
theorem dJ12_equals_5 : decode cJ12_equals 5 = .ok (.iconst 1, 1) := dk_4 (dk_at dksJ12_equals_0 5 rfl rfl)
theorem dJ12_equals_6 : decode cJ12_equals 6 = .ok (.ireturn, 1) := dk_172 (dk_at dksJ12_equals_0 6 rfl rfl)
theorem dJ12_equals_7 : decode cJ12_equals 7 = .ok (.aload_n 1, 1) := dk_43 (dk_at dksJ12_equals_0 7 rfl rfl)
theorem dJ12_equals_8 : decode cJ12_equals 8 = .ok (.instanceof 10, 3) := dk_193 0 10 (dk_at dksJ12_equals_0 8 rfl rfl)
theorem dJ12_equals_11 : decode cJ12_equals 11 = .ok (.ifCond .eq 43, 3) := dk_153 0 43 (dk_at dksJ12_equals_0 11 rfl rfl)
theorem dJ12_equals_14 : decode cJ12_equals 14 = .ok (.aload_n 1, 1) := dk_43 (dk_at dksJ12_equals_0 14 rfl rfl)
theorem dJ12_equals_15 : decode cJ12_equals 15 = .ok (.checkcast 10, 3) := dk_192 0 10 (dk_at dksJ12_equals_0 15 rfl rfl)
theorem dJ12_equals_18 : decode cJ12_equals 18 = .ok (.astore_n 2, 1) := dk_77 (dk_at dksJ12_equals_0 18 rfl rfl)
theorem dJ12_equals_19 : decode cJ12_equals 19 = .ok (.getstatic 38, 3) := dk_178 0 38 (dk_at dksJ12_equals_0 19 rfl rfl)
theorem dJ12_equals_22 : decode cJ12_equals 22 = .ok (.ifCond .eq 14, 3) := dk_153 0 14 (dk_at dksJ12_equals_1 0 rfl rfl)
theorem dJ12_equals_25 : decode cJ12_equals 25 = .ok (.aload_n 0, 1) := dk_42 (dk_at dksJ12_equals_1 3 rfl rfl)
theorem dJ12_equals_26 : decode cJ12_equals 26 = .ok (.getfield 15, 3) := dk_180 0 15 (dk_at dksJ12_equals_1 4 rfl rfl)
theorem dJ12_equals_29 : decode cJ12_equals 29 = .ok (.aload_n 2, 1) := dk_44 (dk_at dksJ12_equals_1 7 rfl rfl)
theorem dJ12_equals_30 : decode cJ12_equals 30 = .ok (.getfield 15, 3) := dk_180 0 15 (dk_at dksJ12_equals_1 8 rfl rfl)
theorem dJ12_equals_33 : decode cJ12_equals 33 = .ok (.if_icmp .ne 21, 3) := dk_160 0 21 (dk_at dksJ12_equals_1 11 rfl rfl)
theorem dJ12_equals_36 : decode cJ12_equals 36 = .ok (.aload_n 0, 1) := dk_42 (dk_at dksJ12_equals_1 14 rfl rfl)
theorem dJ12_equals_37 : decode cJ12_equals 37 = .ok (.getfield 9, 3) := dk_180 0 9 (dk_at dksJ12_equals_1 15 rfl rfl)
theorem dJ12_equals_40 : decode cJ12_equals 40 = .ok (.aload_n 2, 1) := dk_44 (dk_at dksJ12_equals_1 18 rfl rfl)
theorem dJ12_equals_41 : decode cJ12_equals 41 = .ok (.getfield 9, 3) := dk_180 0 9 (dk_at dksJ12_equals_1 19 rfl rfl)
theorem dJ12_equals_44 : decode cJ12_equals 44 = .ok (.invokestatic 541, 3) := dk_184 2 29 (dk_at dksJ12_equals_2 0 rfl rfl)
theorem dJ12_equals_47 : decode cJ12_equals 47 = .ok (.ifCond .eq 7, 3) := dk_153 0 7 (dk_at dksJ12_equals_2 3 rfl rfl)
theorem dJ12_equals_50 : decode cJ12_equals 50 = .ok (.iconst 1, 1) := dk_4 (dk_at dksJ12_equals_2 6 rfl rfl)
theorem dJ12_equals_51 : decode cJ12_equals 51 = .ok (.goto 4, 3) := dk_167 0 4 (dk_at dksJ12_equals_2 7 rfl rfl)
theorem dJ12_equals_54 : decode cJ12_equals 54 = .ok (.iconst 0, 1) := dk_3 (dk_at dksJ12_equals_2 10 rfl rfl)
theorem dJ12_equals_55 : decode cJ12_equals 55 = .ok (.ireturn, 1) := dk_172 (dk_at dksJ12_equals_2 11 rfl rfl)
abbrev cJ12_checkIndex : ByteArray := prog_35_method_155_code
def yJ12_checkIndex : MethodName := ⟨RJ12, "checkIndex", "(II)V"⟩
def dkwJ12_checkIndex_0 : List UInt8 := [26, 27, 178, 4, 29, 184, 4, 35, 87, 177]
abbrev dktJ12_checkIndex_0 : List UInt8 := dkwJ12_checkIndex_0 ++ []
theorem dksJ12_checkIndex_0 : cJ12_checkIndex.data.toList.drop 0 = dktJ12_checkIndex_0 := by decide +kernel
theorem dJ12_checkIndex_0 : decode cJ12_checkIndex 0 = .ok (.iload_n 0, 1) := dk_26 (dk_at dksJ12_checkIndex_0 0 rfl rfl)
theorem dJ12_checkIndex_1 : decode cJ12_checkIndex 1 = .ok (.iload_n 1, 1) := dk_27 (dk_at dksJ12_checkIndex_0 1 rfl rfl)
theorem dJ12_checkIndex_2 : decode cJ12_checkIndex 2 = .ok (.getstatic 1053, 3) := dk_178 4 29 (dk_at dksJ12_checkIndex_0 2 rfl rfl)
theorem dJ12_checkIndex_5 : decode cJ12_checkIndex 5 = .ok (.invokestatic 1059, 3) := dk_184 4 35 (dk_at dksJ12_checkIndex_0 5 rfl rfl)
theorem dJ12_checkIndex_8 : decode cJ12_checkIndex 8 = .ok (.pop, 1) := dk_87 (dk_at dksJ12_checkIndex_0 8 rfl rfl)
theorem dJ12_checkIndex_9 : decode cJ12_checkIndex 9 = .ok (.return_, 1) := dk_177 (dk_at dksJ12_checkIndex_0 9 rfl rfl)
abbrev cJ12_charAt : ByteArray := prog_35_method_56_code
def yJ12_charAt : MethodName := ⟨RJ12, "charAt", "(I)C"⟩
def dkwJ12_charAt_1 : List UInt8 := [172]
abbrev dktJ12_charAt_1 : List UInt8 := dkwJ12_charAt_1 ++ []
def dkwJ12_charAt_0 : List UInt8 := [42, 182, 1, 236, 153, 0, 12, 42, 180, 0, 9, 27, 184, 1, 239, 172, 42, 180, 0, 9, 27, 184, 1, 242]
abbrev dktJ12_charAt_0 : List UInt8 := dkwJ12_charAt_0 ++ dktJ12_charAt_1
theorem dksJ12_charAt_0 : cJ12_charAt.data.toList.drop 0 = dktJ12_charAt_0 := by decide +kernel
theorem dksJ12_charAt_1 : cJ12_charAt.data.toList.drop 24 = dktJ12_charAt_1 := dk_seg dksJ12_charAt_0 24 rfl rfl
theorem dJ12_charAt_0 : decode cJ12_charAt 0 = .ok (.aload_n 0, 1) := dk_42 (dk_at dksJ12_charAt_0 0 rfl rfl)
theorem dJ12_charAt_1 : decode cJ12_charAt 1 = .ok (.invokevirtual 492, 3) := dk_182 1 236 (dk_at dksJ12_charAt_0 1 rfl rfl)
theorem dJ12_charAt_4 : decode cJ12_charAt 4 = .ok (.ifCond .eq 12, 3) := dk_153 0 12 (dk_at dksJ12_charAt_0 4 rfl rfl)
theorem dJ12_charAt_7 : decode cJ12_charAt 7 = .ok (.aload_n 0, 1) := dk_42 (dk_at dksJ12_charAt_0 7 rfl rfl)
theorem dJ12_charAt_8 : decode cJ12_charAt 8 = .ok (.getfield 9, 3) := dk_180 0 9 (dk_at dksJ12_charAt_0 8 rfl rfl)
theorem dJ12_charAt_11 : decode cJ12_charAt 11 = .ok (.iload_n 1, 1) := dk_27 (dk_at dksJ12_charAt_0 11 rfl rfl)
theorem dJ12_charAt_12 : decode cJ12_charAt 12 = .ok (.invokestatic 495, 3) := dk_184 1 239 (dk_at dksJ12_charAt_0 12 rfl rfl)
theorem dJ12_charAt_15 : decode cJ12_charAt 15 = .ok (.ireturn, 1) := dk_172 (dk_at dksJ12_charAt_0 15 rfl rfl)
theorem dJ12_charAt_16 : decode cJ12_charAt 16 = .ok (.aload_n 0, 1) := dk_42 (dk_at dksJ12_charAt_0 16 rfl rfl)
theorem dJ12_charAt_17 : decode cJ12_charAt 17 = .ok (.getfield 9, 3) := dk_180 0 9 (dk_at dksJ12_charAt_0 17 rfl rfl)
theorem dJ12_charAt_20 : decode cJ12_charAt 20 = .ok (.iload_n 1, 1) := dk_27 (dk_at dksJ12_charAt_0 20 rfl rfl)
theorem dJ12_charAt_21 : decode cJ12_charAt 21 = .ok (.invokestatic 498, 3) := dk_184 1 242 (dk_at dksJ12_charAt_0 21 rfl rfl)
theorem dJ12_charAt_24 : decode cJ12_charAt 24 = .ok (.ireturn, 1) := dk_172 (dk_at dksJ12_charAt_1 0 rfl rfl)
def RJ18 : String := "java/lang/StringLatin1"
abbrev cJ18_hashCode : ByteArray := prog_38_method_21_code
def yJ18_hashCode : MethodName := ⟨RJ18, "hashCode", "([B)I"⟩
def dkwJ18_hashCode_2 : List UInt8 := [3, 167, 0, 22, 42, 3, 51, 17, 0, 255, 126, 167, 0, 12, 42, 3, 42, 190, 3, 7, 184, 0, 84, 172]
abbrev dktJ18_hashCode_2 : List UInt8 := dkwJ18_hashCode_2 ++ []
def dkwJ18_hashCode_1 : List UInt8 := [171, 0, 0, 0, 0, 40, 0, 0, 0, 2, 0, 0, 0, 0, 0, 0, 0, 26, 0, 0, 0, 1, 0, 0, 0, 30]
abbrev dktJ18_hashCode_1 : List UInt8 := dkwJ18_hashCode_1 ++ dktJ18_hashCode_2
def dkwJ18_hashCode_0 : List UInt8 := [42, 190]
abbrev dktJ18_hashCode_0 : List UInt8 := dkwJ18_hashCode_0 ++ dktJ18_hashCode_1
theorem dksJ18_hashCode_0 : cJ18_hashCode.data.toList.drop 0 = dktJ18_hashCode_0 := by decide +kernel
theorem dksJ18_hashCode_1 : cJ18_hashCode.data.toList.drop 2 = dktJ18_hashCode_1 := dk_seg dksJ18_hashCode_0 2 rfl rfl
theorem dksJ18_hashCode_2 : cJ18_hashCode.data.toList.drop 28 = dktJ18_hashCode_2 := dk_seg dksJ18_hashCode_1 26 rfl rfl
theorem dJ18_hashCode_0 : decode cJ18_hashCode 0 = .ok (.aload_n 0, 1) := dk_42 (dk_at dksJ18_hashCode_0 0 rfl rfl)
theorem dJ18_hashCode_1 : decode cJ18_hashCode 1 = .ok (.arraylength, 1) := dk_190 (dk_at dksJ18_hashCode_0 1 rfl rfl)
theorem dJ18_hashCode_2 : decode cJ18_hashCode 2 = .ok (.lookupswitch 40 #[(0, 26), (1, 30)], 26) := by decide +kernel
theorem dJ18_hashCode_28 : decode cJ18_hashCode 28 = .ok (.iconst 0, 1) := dk_3 (dk_at dksJ18_hashCode_2 0 rfl rfl)
theorem dJ18_hashCode_29 : decode cJ18_hashCode 29 = .ok (.goto 22, 3) := dk_167 0 22 (dk_at dksJ18_hashCode_2 1 rfl rfl)
theorem dJ18_hashCode_32 : decode cJ18_hashCode 32 = .ok (.aload_n 0, 1) := dk_42 (dk_at dksJ18_hashCode_2 4 rfl rfl)
theorem dJ18_hashCode_33 : decode cJ18_hashCode 33 = .ok (.iconst 0, 1) := dk_3 (dk_at dksJ18_hashCode_2 5 rfl rfl)
theorem dJ18_hashCode_34 : decode cJ18_hashCode 34 = .ok (.baload, 1) := dk_51 (dk_at dksJ18_hashCode_2 6 rfl rfl)
theorem dJ18_hashCode_35 : decode cJ18_hashCode 35 = .ok (.sipush 255, 3) := dk_17 0 255 (dk_at dksJ18_hashCode_2 7 rfl rfl)
theorem dJ18_hashCode_38 : decode cJ18_hashCode 38 = .ok (.iand, 1) := dk_126 (dk_at dksJ18_hashCode_2 10 rfl rfl)
theorem dJ18_hashCode_39 : decode cJ18_hashCode 39 = .ok (.goto 12, 3) := dk_167 0 12 (dk_at dksJ18_hashCode_2 11 rfl rfl)
theorem dJ18_hashCode_42 : decode cJ18_hashCode 42 = .ok (.aload_n 0, 1) := dk_42 (dk_at dksJ18_hashCode_2 14 rfl rfl)
theorem dJ18_hashCode_43 : decode cJ18_hashCode 43 = .ok (.iconst 0, 1) := dk_3 (dk_at dksJ18_hashCode_2 15 rfl rfl)
theorem dJ18_hashCode_44 : decode cJ18_hashCode 44 = .ok (.aload_n 0, 1) := dk_42 (dk_at dksJ18_hashCode_2 16 rfl rfl)
theorem dJ18_hashCode_45 : decode cJ18_hashCode 45 = .ok (.arraylength, 1) := dk_190 (dk_at dksJ18_hashCode_2 17 rfl rfl)
theorem dJ18_hashCode_46 : decode cJ18_hashCode 46 = .ok (.iconst 0, 1) := dk_3 (dk_at dksJ18_hashCode_2 18 rfl rfl)
theorem dJ18_hashCode_47 : decode cJ18_hashCode 47 = .ok (.iconst 4, 1) := dk_7 (dk_at dksJ18_hashCode_2 19 rfl rfl)
theorem dJ18_hashCode_48 : decode cJ18_hashCode 48 = .ok (.invokestatic 84, 3) := dk_184 0 84 (dk_at dksJ18_hashCode_2 20 rfl rfl)
theorem dJ18_hashCode_51 : decode cJ18_hashCode 51 = .ok (.ireturn, 1) := dk_172 (dk_at dksJ18_hashCode_2 23 rfl rfl)
abbrev cJ18_equals : ByteArray := prog_38_method_13_code
def yJ18_equals : MethodName := ⟨RJ18, "equals", "([B[B)Z"⟩
def dkwJ18_equals_1 : List UInt8 := [3, 172, 132, 2, 1, 167, 255, 236, 4, 172, 3, 172]
abbrev dktJ18_equals_1 : List UInt8 := dkwJ18_equals_1 ++ []
def dkwJ18_equals_0 : List UInt8 := [42, 190, 43, 190, 160, 0, 30, 3, 61, 28, 42, 190, 162, 0, 20, 42, 28, 51, 43, 28, 51, 159, 0, 5]
abbrev dktJ18_equals_0 : List UInt8 := dkwJ18_equals_0 ++ dktJ18_equals_1
theorem dksJ18_equals_0 : cJ18_equals.data.toList.drop 0 = dktJ18_equals_0 := by decide +kernel
theorem dksJ18_equals_1 : cJ18_equals.data.toList.drop 24 = dktJ18_equals_1 := dk_seg dksJ18_equals_0 24 rfl rfl
theorem dJ18_equals_0 : decode cJ18_equals 0 = .ok (.aload_n 0, 1) := dk_42 (dk_at dksJ18_equals_0 0 rfl rfl)
theorem dJ18_equals_1 : decode cJ18_equals 1 = .ok (.arraylength, 1) := dk_190 (dk_at dksJ18_equals_0 1 rfl rfl)
theorem dJ18_equals_2 : decode cJ18_equals 2 = .ok (.aload_n 1, 1) := dk_43 (dk_at dksJ18_equals_0 2 rfl rfl)
theorem dJ18_equals_3 : decode cJ18_equals 3 = .ok (.arraylength, 1) := dk_190 (dk_at dksJ18_equals_0 3 rfl rfl)
theorem dJ18_equals_4 : decode cJ18_equals 4 = .ok (.if_icmp .ne 30, 3) := dk_160 0 30 (dk_at dksJ18_equals_0 4 rfl rfl)
theorem dJ18_equals_7 : decode cJ18_equals 7 = .ok (.iconst 0, 1) := dk_3 (dk_at dksJ18_equals_0 7 rfl rfl)
theorem dJ18_equals_8 : decode cJ18_equals 8 = .ok (.istore_n 2, 1) := dk_61 (dk_at dksJ18_equals_0 8 rfl rfl)
theorem dJ18_equals_9 : decode cJ18_equals 9 = .ok (.iload_n 2, 1) := dk_28 (dk_at dksJ18_equals_0 9 rfl rfl)
theorem dJ18_equals_10 : decode cJ18_equals 10 = .ok (.aload_n 0, 1) := dk_42 (dk_at dksJ18_equals_0 10 rfl rfl)
theorem dJ18_equals_11 : decode cJ18_equals 11 = .ok (.arraylength, 1) := dk_190 (dk_at dksJ18_equals_0 11 rfl rfl)
theorem dJ18_equals_12 : decode cJ18_equals 12 = .ok (.if_icmp .ge 20, 3) := dk_162 0 20 (dk_at dksJ18_equals_0 12 rfl rfl)
theorem dJ18_equals_15 : decode cJ18_equals 15 = .ok (.aload_n 0, 1) := dk_42 (dk_at dksJ18_equals_0 15 rfl rfl)
theorem dJ18_equals_16 : decode cJ18_equals 16 = .ok (.iload_n 2, 1) := dk_28 (dk_at dksJ18_equals_0 16 rfl rfl)
theorem dJ18_equals_17 : decode cJ18_equals 17 = .ok (.baload, 1) := dk_51 (dk_at dksJ18_equals_0 17 rfl rfl)
theorem dJ18_equals_18 : decode cJ18_equals 18 = .ok (.aload_n 1, 1) := dk_43 (dk_at dksJ18_equals_0 18 rfl rfl)
theorem dJ18_equals_19 : decode cJ18_equals 19 = .ok (.iload_n 2, 1) := dk_28 (dk_at dksJ18_equals_0 19 rfl rfl)
theorem dJ18_equals_20 : decode cJ18_equals 20 = .ok (.baload, 1) := dk_51 (dk_at dksJ18_equals_0 20 rfl rfl)
theorem dJ18_equals_21 : decode cJ18_equals 21 = .ok (.if_icmp .eq 5, 3) := dk_159 0 5 (dk_at dksJ18_equals_0 21 rfl rfl)
theorem dJ18_equals_24 : decode cJ18_equals 24 = .ok (.iconst 0, 1) := dk_3 (dk_at dksJ18_equals_1 0 rfl rfl)
theorem dJ18_equals_25 : decode cJ18_equals 25 = .ok (.ireturn, 1) := dk_172 (dk_at dksJ18_equals_1 1 rfl rfl)
theorem dJ18_equals_26 : decode cJ18_equals 26 = .ok (.iinc 2 1, 3) := dk_132 2 1 (dk_at dksJ18_equals_1 2 rfl rfl)
theorem dJ18_equals_29 : decode cJ18_equals 29 = .ok (.goto (-20), 3) := dk_167 255 236 (dk_at dksJ18_equals_1 5 rfl rfl)
theorem dJ18_equals_32 : decode cJ18_equals 32 = .ok (.iconst 1, 1) := dk_4 (dk_at dksJ18_equals_1 8 rfl rfl)
theorem dJ18_equals_33 : decode cJ18_equals 33 = .ok (.ireturn, 1) := dk_172 (dk_at dksJ18_equals_1 9 rfl rfl)
theorem dJ18_equals_34 : decode cJ18_equals 34 = .ok (.iconst 0, 1) := dk_3 (dk_at dksJ18_equals_1 10 rfl rfl)
theorem dJ18_equals_35 : decode cJ18_equals 35 = .ok (.ireturn, 1) := dk_172 (dk_at dksJ18_equals_1 11 rfl rfl)
abbrev cJ18_canEncode : ByteArray := prog_38_method_3_code
def yJ18_canEncode : MethodName := ⟨RJ18, "canEncode", "(C)Z"⟩
def dkwJ18_canEncode_0 : List UInt8 := [26, 17, 0, 255, 163, 0, 7, 4, 167, 0, 4, 3, 172]
abbrev dktJ18_canEncode_0 : List UInt8 := dkwJ18_canEncode_0 ++ []
theorem dksJ18_canEncode_0 : cJ18_canEncode.data.toList.drop 0 = dktJ18_canEncode_0 := by decide +kernel
theorem dJ18_canEncode_0 : decode cJ18_canEncode 0 = .ok (.iload_n 0, 1) := dk_26 (dk_at dksJ18_canEncode_0 0 rfl rfl)
theorem dJ18_canEncode_1 : decode cJ18_canEncode 1 = .ok (.sipush 255, 3) := dk_17 0 255 (dk_at dksJ18_canEncode_0 1 rfl rfl)
theorem dJ18_canEncode_4 : decode cJ18_canEncode 4 = .ok (.if_icmp .gt 7, 3) := dk_163 0 7 (dk_at dksJ18_canEncode_0 4 rfl rfl)
theorem dJ18_canEncode_7 : decode cJ18_canEncode 7 = .ok (.iconst 1, 1) := dk_4 (dk_at dksJ18_canEncode_0 7 rfl rfl)
theorem dJ18_canEncode_8 : decode cJ18_canEncode 8 = .ok (.goto 4, 3) := dk_167 0 4 (dk_at dksJ18_canEncode_0 8 rfl rfl)
theorem dJ18_canEncode_11 : decode cJ18_canEncode 11 = .ok (.iconst 0, 1) := dk_3 (dk_at dksJ18_canEncode_0 11 rfl rfl)
theorem dJ18_canEncode_12 : decode cJ18_canEncode 12 = .ok (.ireturn, 1) := dk_172 (dk_at dksJ18_canEncode_0 12 rfl rfl)
abbrev cJ18_charAt : ByteArray := prog_38_method_2_code
def yJ18_charAt : MethodName := ⟨RJ18, "charAt", "([BI)C"⟩
def dkwJ18_charAt_0 : List UInt8 := [27, 42, 190, 184, 0, 9, 42, 27, 51, 17, 0, 255, 126, 146, 172]
abbrev dktJ18_charAt_0 : List UInt8 := dkwJ18_charAt_0 ++ []
theorem dksJ18_charAt_0 : cJ18_charAt.data.toList.drop 0 = dktJ18_charAt_0 := by decide +kernel
theorem dJ18_charAt_0 : decode cJ18_charAt 0 = .ok (.iload_n 1, 1) := dk_27 (dk_at dksJ18_charAt_0 0 rfl rfl)
theorem dJ18_charAt_1 : decode cJ18_charAt 1 = .ok (.aload_n 0, 1) := dk_42 (dk_at dksJ18_charAt_0 1 rfl rfl)
theorem dJ18_charAt_2 : decode cJ18_charAt 2 = .ok (.arraylength, 1) := dk_190 (dk_at dksJ18_charAt_0 2 rfl rfl)
theorem dJ18_charAt_3 : decode cJ18_charAt 3 = .ok (.invokestatic 9, 3) := dk_184 0 9 (dk_at dksJ18_charAt_0 3 rfl rfl)
theorem dJ18_charAt_6 : decode cJ18_charAt 6 = .ok (.aload_n 0, 1) := dk_42 (dk_at dksJ18_charAt_0 6 rfl rfl)
theorem dJ18_charAt_7 : decode cJ18_charAt 7 = .ok (.iload_n 1, 1) := dk_27 (dk_at dksJ18_charAt_0 7 rfl rfl)
theorem dJ18_charAt_8 : decode cJ18_charAt 8 = .ok (.baload, 1) := dk_51 (dk_at dksJ18_charAt_0 8 rfl rfl)
theorem dJ18_charAt_9 : decode cJ18_charAt 9 = .ok (.sipush 255, 3) := dk_17 0 255 (dk_at dksJ18_charAt_0 9 rfl rfl)
theorem dJ18_charAt_12 : decode cJ18_charAt 12 = .ok (.iand, 1) := dk_126 (dk_at dksJ18_charAt_0 12 rfl rfl)
theorem dJ18_charAt_13 : decode cJ18_charAt 13 = .ok (.i2c, 1) := dk_146 (dk_at dksJ18_charAt_0 13 rfl rfl)
theorem dJ18_charAt_14 : decode cJ18_charAt 14 = .ok (.ireturn, 1) := dk_172 (dk_at dksJ18_charAt_0 14 rfl rfl)
def RJ7 : String := "java/lang/Exception"
abbrev cJ7_init_2 : ByteArray := prog_25_method_5_code
def yJ7_init_2 : MethodName := ⟨RJ7, "<init>", "(Ljava/lang/String;Ljava/lang/Throwable;ZZ)V"⟩
def dkwJ7_init_2_0 : List UInt8 := [42, 43, 44, 29, 21, 4, 183, 0, 16, 177]
abbrev dktJ7_init_2_0 : List UInt8 := dkwJ7_init_2_0 ++ []
theorem dksJ7_init_2_0 : cJ7_init_2.data.toList.drop 0 = dktJ7_init_2_0 := by decide +kernel
theorem dJ7_init_2_0 : decode cJ7_init_2 0 = .ok (.aload_n 0, 1) := dk_42 (dk_at dksJ7_init_2_0 0 rfl rfl)
theorem dJ7_init_2_1 : decode cJ7_init_2 1 = .ok (.aload_n 1, 1) := dk_43 (dk_at dksJ7_init_2_0 1 rfl rfl)
theorem dJ7_init_2_2 : decode cJ7_init_2 2 = .ok (.aload_n 2, 1) := dk_44 (dk_at dksJ7_init_2_0 2 rfl rfl)
theorem dJ7_init_2_3 : decode cJ7_init_2 3 = .ok (.iload_n 3, 1) := dk_29 (dk_at dksJ7_init_2_0 3 rfl rfl)
theorem dJ7_init_2_4 : decode cJ7_init_2 4 = .ok (.iload 4, 2) := dk_21 4 (dk_at dksJ7_init_2_0 4 rfl rfl)
theorem dJ7_init_2_6 : decode cJ7_init_2 6 = .ok (.invokespecial 16, 3) := dk_183 0 16 (dk_at dksJ7_init_2_0 6 rfl rfl)
theorem dJ7_init_2_9 : decode cJ7_init_2 9 = .ok (.return_, 1) := dk_177 (dk_at dksJ7_init_2_0 9 rfl rfl)
def RJ6 : String := "java/lang/Throwable"
abbrev cJ6_init_3 : ByteArray := prog_42_method_5_code
def yJ6_init_3 : MethodName := ⟨RJ6, "<init>", "(Ljava/lang/String;Ljava/lang/Throwable;ZZ)V"⟩
def dkwJ6_init_3_2 : List UInt8 := [44, 181, 0, 7, 29, 154, 0, 8, 42, 1, 181, 0, 24, 177]
abbrev dktJ6_init_3_2 : List UInt8 := dkwJ6_init_3_2 ++ []
def dkwJ6_init_3_1 : List UInt8 := [21, 4, 153, 0, 11, 42, 182, 0, 27, 87, 167, 0, 8, 42, 1, 181, 0, 17, 42, 43, 181, 0, 31, 42]
abbrev dktJ6_init_3_1 : List UInt8 := dkwJ6_init_3_1 ++ dktJ6_init_3_2
def dkwJ6_init_3_0 : List UInt8 := [42, 183, 0, 1, 42, 42, 181, 0, 7, 42, 178, 0, 13, 181, 0, 17, 42, 178, 0, 20, 181, 0, 24]
abbrev dktJ6_init_3_0 : List UInt8 := dkwJ6_init_3_0 ++ dktJ6_init_3_1
theorem dksJ6_init_3_0 : cJ6_init_3.data.toList.drop 0 = dktJ6_init_3_0 := by decide +kernel
theorem dksJ6_init_3_1 : cJ6_init_3.data.toList.drop 23 = dktJ6_init_3_1 := dk_seg dksJ6_init_3_0 23 rfl rfl
theorem dksJ6_init_3_2 : cJ6_init_3.data.toList.drop 47 = dktJ6_init_3_2 := dk_seg dksJ6_init_3_1 24 rfl rfl
theorem dJ6_init_3_0 : decode cJ6_init_3 0 = .ok (.aload_n 0, 1) := dk_42 (dk_at dksJ6_init_3_0 0 rfl rfl)
theorem dJ6_init_3_1 : decode cJ6_init_3 1 = .ok (.invokespecial 1, 3) := dk_183 0 1 (dk_at dksJ6_init_3_0 1 rfl rfl)
theorem dJ6_init_3_4 : decode cJ6_init_3 4 = .ok (.aload_n 0, 1) := dk_42 (dk_at dksJ6_init_3_0 4 rfl rfl)
theorem dJ6_init_3_5 : decode cJ6_init_3 5 = .ok (.aload_n 0, 1) := dk_42 (dk_at dksJ6_init_3_0 5 rfl rfl)
theorem dJ6_init_3_6 : decode cJ6_init_3 6 = .ok (.putfield 7, 3) := dk_181 0 7 (dk_at dksJ6_init_3_0 6 rfl rfl)
theorem dJ6_init_3_9 : decode cJ6_init_3 9 = .ok (.aload_n 0, 1) := dk_42 (dk_at dksJ6_init_3_0 9 rfl rfl)
theorem dJ6_init_3_10 : decode cJ6_init_3 10 = .ok (.getstatic 13, 3) := dk_178 0 13 (dk_at dksJ6_init_3_0 10 rfl rfl)
theorem dJ6_init_3_13 : decode cJ6_init_3 13 = .ok (.putfield 17, 3) := dk_181 0 17 (dk_at dksJ6_init_3_0 13 rfl rfl)
theorem dJ6_init_3_16 : decode cJ6_init_3 16 = .ok (.aload_n 0, 1) := dk_42 (dk_at dksJ6_init_3_0 16 rfl rfl)
theorem dJ6_init_3_17 : decode cJ6_init_3 17 = .ok (.getstatic 20, 3) := dk_178 0 20 (dk_at dksJ6_init_3_0 17 rfl rfl)
theorem dJ6_init_3_20 : decode cJ6_init_3 20 = .ok (.putfield 24, 3) := dk_181 0 24 (dk_at dksJ6_init_3_0 20 rfl rfl)
theorem dJ6_init_3_23 : decode cJ6_init_3 23 = .ok (.iload 4, 2) := dk_21 4 (dk_at dksJ6_init_3_1 0 rfl rfl)
theorem dJ6_init_3_25 : decode cJ6_init_3 25 = .ok (.ifCond .eq 11, 3) := dk_153 0 11 (dk_at dksJ6_init_3_1 2 rfl rfl)
theorem dJ6_init_3_28 : decode cJ6_init_3 28 = .ok (.aload_n 0, 1) := dk_42 (dk_at dksJ6_init_3_1 5 rfl rfl)
theorem dJ6_init_3_29 : decode cJ6_init_3 29 = .ok (.invokevirtual 27, 3) := dk_182 0 27 (dk_at dksJ6_init_3_1 6 rfl rfl)
theorem dJ6_init_3_32 : decode cJ6_init_3 32 = .ok (.pop, 1) := dk_87 (dk_at dksJ6_init_3_1 9 rfl rfl)
theorem dJ6_init_3_33 : decode cJ6_init_3 33 = .ok (.goto 8, 3) := dk_167 0 8 (dk_at dksJ6_init_3_1 10 rfl rfl)
theorem dJ6_init_3_36 : decode cJ6_init_3 36 = .ok (.aload_n 0, 1) := dk_42 (dk_at dksJ6_init_3_1 13 rfl rfl)
theorem dJ6_init_3_37 : decode cJ6_init_3 37 = .ok (.aconst_null, 1) := dk_1 (dk_at dksJ6_init_3_1 14 rfl rfl)
theorem dJ6_init_3_38 : decode cJ6_init_3 38 = .ok (.putfield 17, 3) := dk_181 0 17 (dk_at dksJ6_init_3_1 15 rfl rfl)
theorem dJ6_init_3_41 : decode cJ6_init_3 41 = .ok (.aload_n 0, 1) := dk_42 (dk_at dksJ6_init_3_1 18 rfl rfl)
theorem dJ6_init_3_42 : decode cJ6_init_3 42 = .ok (.aload_n 1, 1) := dk_43 (dk_at dksJ6_init_3_1 19 rfl rfl)
theorem dJ6_init_3_43 : decode cJ6_init_3 43 = .ok (.putfield 31, 3) := dk_181 0 31 (dk_at dksJ6_init_3_1 20 rfl rfl)
theorem dJ6_init_3_46 : decode cJ6_init_3 46 = .ok (.aload_n 0, 1) := dk_42 (dk_at dksJ6_init_3_1 23 rfl rfl)
theorem dJ6_init_3_47 : decode cJ6_init_3 47 = .ok (.aload_n 2, 1) := dk_44 (dk_at dksJ6_init_3_2 0 rfl rfl)
theorem dJ6_init_3_48 : decode cJ6_init_3 48 = .ok (.putfield 7, 3) := dk_181 0 7 (dk_at dksJ6_init_3_2 1 rfl rfl)
theorem dJ6_init_3_51 : decode cJ6_init_3 51 = .ok (.iload_n 3, 1) := dk_29 (dk_at dksJ6_init_3_2 4 rfl rfl)
theorem dJ6_init_3_52 : decode cJ6_init_3 52 = .ok (.ifCond .ne 8, 3) := dk_154 0 8 (dk_at dksJ6_init_3_2 5 rfl rfl)
theorem dJ6_init_3_55 : decode cJ6_init_3 55 = .ok (.aload_n 0, 1) := dk_42 (dk_at dksJ6_init_3_2 8 rfl rfl)
theorem dJ6_init_3_56 : decode cJ6_init_3 56 = .ok (.aconst_null, 1) := dk_1 (dk_at dksJ6_init_3_2 9 rfl rfl)
theorem dJ6_init_3_57 : decode cJ6_init_3 57 = .ok (.putfield 24, 3) := dk_181 0 24 (dk_at dksJ6_init_3_2 10 rfl rfl)
theorem dJ6_init_3_60 : decode cJ6_init_3 60 = .ok (.return_, 1) := dk_177 (dk_at dksJ6_init_3_2 13 rfl rfl)
