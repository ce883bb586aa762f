set_option maxRecDepth 100000
def dkwJ0_min_0 : List UInt8 := [30, 32, 148, 157, 0, 7, 30, 167, 0, 4, 32, 173]
abbrev dktJ0_min_0 : List UInt8 := dkwJ0_min_0 ++ []
theorem dksJ0_min_0 : cJ0_min.data.toList.drop 0 = dktJ0_min_0 := by decide +kernel
theorem dJ0_min_0 : decode cJ0_min 0 = .ok (.lload_n 0, 1) := dk_30 (dk_at dksJ0_min_0 0 rfl rfl)
theorem dJ0_min_1 : decode cJ0_min 1 = .ok (.lload_n 2, 1) := dk_32 (dk_at dksJ0_min_0 1 rfl rfl)
theorem dJ0_min_2 : decode cJ0_min 2 = .ok (.lcmp, 1) := dk_148 (dk_at dksJ0_min_0 2 rfl rfl)
theorem dJ0_min_3 : decode cJ0_min 3 = .ok (.ifCond .gt 7, 3) := dk_157 0 7 (dk_at dksJ0_min_0 3 rfl rfl)
theorem dJ0_min_6 : decode cJ0_min 6 = .ok (.lload_n 0, 1) := dk_30 (dk_at dksJ0_min_0 6 rfl rfl)
theorem dJ0_min_7 : decode cJ0_min 7 = .ok (.goto 4, 3) := dk_167 0 4 (dk_at dksJ0_min_0 7 rfl rfl)
theorem dJ0_min_10 : decode cJ0_min 10 = .ok (.lload_n 2, 1) := dk_32 (dk_at dksJ0_min_0 10 rfl rfl)
theorem dJ0_min_11 : decode cJ0_min 11 = .ok (.lreturn, 1) := dk_173 (dk_at dksJ0_min_0 11 rfl rfl)
def dkwJ0_max_0 : List UInt8 := [30, 32, 148, 155, 0, 7, 30, 167, 0, 4, 32, 173]
abbrev dktJ0_max_0 : List UInt8 := dkwJ0_max_0 ++ []
theorem dksJ0_max_0 : cJ0_max.data.toList.drop 0 = dktJ0_max_0 := by decide +kernel
theorem dJ0_max_0 : decode cJ0_max 0 = .ok (.lload_n 0, 1) := dk_30 (dk_at dksJ0_max_0 0 rfl rfl)
theorem dJ0_max_1 : decode cJ0_max 1 = .ok (.lload_n 2, 1) := dk_32 (dk_at dksJ0_max_0 1 rfl rfl)
theorem dJ0_max_2 : decode cJ0_max 2 = .ok (.lcmp, 1) := dk_148 (dk_at dksJ0_max_0 2 rfl rfl)
theorem dJ0_max_3 : decode cJ0_max 3 = .ok (.ifCond .lt 7, 3) := dk_155 0 7 (dk_at dksJ0_max_0 3 rfl rfl)
theorem dJ0_max_6 : decode cJ0_max 6 = .ok (.lload_n 0, 1) := dk_30 (dk_at dksJ0_max_0 6 rfl rfl)
theorem dJ0_max_7 : decode cJ0_max 7 = .ok (.goto 4, 3) := dk_167 0 4 (dk_at dksJ0_max_0 7 rfl rfl)
theorem dJ0_max_10 : decode cJ0_max 10 = .ok (.lload_n 2, 1) := dk_32 (dk_at dksJ0_max_0 10 rfl rfl)
theorem dJ0_max_11 : decode cJ0_max 11 = .ok (.lreturn, 1) := dk_173 (dk_at dksJ0_max_0 11 rfl rfl)
def dkwJ0_min_2_0 : List UInt8 := [26, 27, 163, 0, 7, 26, 167, 0, 4, 27, 172]
abbrev dktJ0_min_2_0 : List UInt8 := dkwJ0_min_2_0 ++ []
theorem dksJ0_min_2_0 : cJ0_min_2.data.toList.drop 0 = dktJ0_min_2_0 := by decide +kernel
theorem dJ0_min_2_0 : decode cJ0_min_2 0 = .ok (.iload_n 0, 1) := dk_26 (dk_at dksJ0_min_2_0 0 rfl rfl)
theorem dJ0_min_2_1 : decode cJ0_min_2 1 = .ok (.iload_n 1, 1) := dk_27 (dk_at dksJ0_min_2_0 1 rfl rfl)
theorem dJ0_min_2_2 : decode cJ0_min_2 2 = .ok (.if_icmp .gt 7, 3) := dk_163 0 7 (dk_at dksJ0_min_2_0 2 rfl rfl)
theorem dJ0_min_2_5 : decode cJ0_min_2 5 = .ok (.iload_n 0, 1) := dk_26 (dk_at dksJ0_min_2_0 5 rfl rfl)
theorem dJ0_min_2_6 : decode cJ0_min_2 6 = .ok (.goto 4, 3) := dk_167 0 4 (dk_at dksJ0_min_2_0 6 rfl rfl)
theorem dJ0_min_2_9 : decode cJ0_min_2 9 = .ok (.iload_n 1, 1) := dk_27 (dk_at dksJ0_min_2_0 9 rfl rfl)
theorem dJ0_min_2_10 : decode cJ0_min_2 10 = .ok (.ireturn, 1) := dk_172 (dk_at dksJ0_min_2_0 10 rfl rfl)
def dkwJ0_max_2_0 : List UInt8 := [26, 27, 161, 0, 7, 26, 167, 0, 4, 27, 172]
abbrev dktJ0_max_2_0 : List UInt8 := dkwJ0_max_2_0 ++ []
theorem dksJ0_max_2_0 : cJ0_max_2.data.toList.drop 0 = dktJ0_max_2_0 := by decide +kernel
theorem dJ0_max_2_0 : decode cJ0_max_2 0 = .ok (.iload_n 0, 1) := dk_26 (dk_at dksJ0_max_2_0 0 rfl rfl)
theorem dJ0_max_2_1 : decode cJ0_max_2 1 = .ok (.iload_n 1, 1) := dk_27 (dk_at dksJ0_max_2_0 1 rfl rfl)
theorem dJ0_max_2_2 : decode cJ0_max_2 2 = .ok (.if_icmp .lt 7, 3) := dk_161 0 7 (dk_at dksJ0_max_2_0 2 rfl rfl)
theorem dJ0_max_2_5 : decode cJ0_max_2 5 = .ok (.iload_n 0, 1) := dk_26 (dk_at dksJ0_max_2_0 5 rfl rfl)
theorem dJ0_max_2_6 : decode cJ0_max_2 6 = .ok (.goto 4, 3) := dk_167 0 4 (dk_at dksJ0_max_2_0 6 rfl rfl)
theorem dJ0_max_2_9 : decode cJ0_max_2 9 = .ok (.iload_n 1, 1) := dk_27 (dk_at dksJ0_max_2_0 9 rfl rfl)
theorem dJ0_max_2_10 : decode cJ0_max_2 10 = .ok (.ireturn, 1) := dk_172 (dk_at dksJ0_max_2_0 10 rfl rfl)
def dkwJ1_of_0 : List UInt8 := [7, 189, 0, 103, 89, 3, 42, 83, 89, 4, 43, 83, 89, 5, 44, 83, 89, 6, 45, 83, 184, 0, 105, 176]
abbrev dktJ1_of_0 : List UInt8 := dkwJ1_of_0 ++ []
theorem dksJ1_of_0 : cJ1_of.data.toList.drop 0 = dktJ1_of_0 := by decide +kernel
theorem dJ1_of_0 : decode cJ1_of 0 = .ok (.iconst 4, 1) := dk_7 (dk_at dksJ1_of_0 0 rfl rfl)
theorem dJ1_of_1 : decode cJ1_of 1 = .ok (.anewarray 103, 3) := dk_189 0 103 (dk_at dksJ1_of_0 1 rfl rfl)
theorem dJ1_of_4 : decode cJ1_of 4 = .ok (.dup, 1) := dk_89 (dk_at dksJ1_of_0 4 rfl rfl)
theorem dJ1_of_5 : decode cJ1_of 5 = .ok (.iconst 0, 1) := dk_3 (dk_at dksJ1_of_0 5 rfl rfl)
theorem dJ1_of_6 : decode cJ1_of 6 = .ok (.aload_n 0, 1) := dk_42 (dk_at dksJ1_of_0 6 rfl rfl)
theorem dJ1_of_7 : decode cJ1_of 7 = .ok (.aastore, 1) := dk_83 (dk_at dksJ1_of_0 7 rfl rfl)
theorem dJ1_of_8 : decode cJ1_of 8 = .ok (.dup, 1) := dk_89 (dk_at dksJ1_of_0 8 rfl rfl)
theorem dJ1_of_9 : decode cJ1_of 9 = .ok (.iconst 1, 1) := dk_4 (dk_at dksJ1_of_0 9 rfl rfl)
theorem dJ1_of_10 : decode cJ1_of 10 = .ok (.aload_n 1, 1) := dk_43 (dk_at dksJ1_of_0 10 rfl rfl)
theorem dJ1_of_11 : decode cJ1_of 11 = .ok (.aastore, 1) := dk_83 (dk_at dksJ1_of_0 11 rfl rfl)
theorem dJ1_of_12 : decode cJ1_of 12 = .ok (.dup, 1) := dk_89 (dk_at dksJ1_of_0 12 rfl rfl)
theorem dJ1_of_13 : decode cJ1_of 13 = .ok (.iconst 2, 1) := dk_5 (dk_at dksJ1_of_0 13 rfl rfl)
theorem dJ1_of_14 : decode cJ1_of 14 = .ok (.aload_n 2, 1) := dk_44 (dk_at dksJ1_of_0 14 rfl rfl)
theorem dJ1_of_15 : decode cJ1_of 15 = .ok (.aastore, 1) := dk_83 (dk_at dksJ1_of_0 15 rfl rfl)
theorem dJ1_of_16 : decode cJ1_of 16 = .ok (.dup, 1) := dk_89 (dk_at dksJ1_of_0 16 rfl rfl)
theorem dJ1_of_17 : decode cJ1_of 17 = .ok (.iconst 3, 1) := dk_6 (dk_at dksJ1_of_0 17 rfl rfl)
theorem dJ1_of_18 : decode cJ1_of 18 = .ok (.aload_n 3, 1) := dk_45 (dk_at dksJ1_of_0 18 rfl rfl)
theorem dJ1_of_19 : decode cJ1_of 19 = .ok (.aastore, 1) := dk_83 (dk_at dksJ1_of_0 19 rfl rfl)
theorem dJ1_of_20 : decode cJ1_of 20 = .ok (.invokestatic 105, 3) := dk_184 0 105 (dk_at dksJ1_of_0 20 rfl rfl)
theorem dJ1_of_23 : decode cJ1_of 23 = .ok (.areturn, 1) := dk_176 (dk_at dksJ1_of_0 23 rfl rfl)
def dkwJ2_listFromTrustedArray_5 : List UInt8 := [3, 50, 42, 4, 50, 183, 0, 67, 167, 0, 12, 187, 0, 12, 89, 42, 3, 183, 0, 43, 176]
abbrev dktJ2_listFromTrustedArray_5 : List UInt8 := dkwJ2_listFromTrustedArray_5 ++ []
def dkwJ2_listFromTrustedArray_4 : List UInt8 := [178, 0, 60, 167, 0, 41, 187, 0, 10, 89, 42, 3, 50, 183, 0, 64, 167, 0, 28, 187, 0, 10, 89, 42]
abbrev dktJ2_listFromTrustedArray_4 : List UInt8 := dkwJ2_listFromTrustedArray_4 ++ dktJ2_listFromTrustedArray_5
def dkwJ2_listFromTrustedArray_3 : List UInt8 := [170, 0, 0, 0, 0, 61, 0, 0, 0, 0, 0, 0, 0, 2, 0, 0, 0, 26, 0, 0, 0, 32, 0, 0, 0, 45]
abbrev dktJ2_listFromTrustedArray_3 : List UInt8 := dkwJ2_listFromTrustedArray_3 ++ dktJ2_listFromTrustedArray_4
def dkwJ2_listFromTrustedArray_2 : List UInt8 := [132, 3, 1, 167, 255, 237, 42, 190]
abbrev dktJ2_listFromTrustedArray_2 : List UInt8 := dkwJ2_listFromTrustedArray_2 ++ dktJ2_listFromTrustedArray_3
def dkwJ2_listFromTrustedArray_1 : List UInt8 := [76, 43, 190, 61, 3, 62, 29, 28, 162, 0, 20, 43, 29, 50, 58, 4, 25, 4, 184, 0, 37, 87]
abbrev dktJ2_listFromTrustedArray_1 : List UInt8 := dkwJ2_listFromTrustedArray_1 ++ dktJ2_listFromTrustedArray_2
def dkwJ2_listFromTrustedArray_0 : List UInt8 := [178, 0, 46, 154, 0, 20, 42, 182, 0, 51, 18, 55, 165, 0, 11, 187, 0, 57, 89, 183, 0, 59, 191, 42]
abbrev dktJ2_listFromTrustedArray_0 : List UInt8 := dkwJ2_listFromTrustedArray_0 ++ dktJ2_listFromTrustedArray_1
theorem dksJ2_listFromTrustedArray_0 : cJ2_listFromTrustedArray.data.toList.drop 0 = dktJ2_listFromTrustedArray_0 := by decide +kernel
theorem dksJ2_listFromTrustedArray_1 : cJ2_listFromTrustedArray.data.toList.drop 24 = dktJ2_listFromTrustedArray_1 := dk_seg dksJ2_listFromTrustedArray_0 24 rfl rfl
theorem dksJ2_listFromTrustedArray_2 : cJ2_listFromTrustedArray.data.toList.drop 46 = dktJ2_listFromTrustedArray_2 := dk_seg dksJ2_listFromTrustedArray_1 22 rfl rfl
theorem dksJ2_listFromTrustedArray_3 : cJ2_listFromTrustedArray.data.toList.drop 54 = dktJ2_listFromTrustedArray_3 := dk_seg dksJ2_listFromTrustedArray_2 8 rfl rfl
theorem dksJ2_listFromTrustedArray_4 : cJ2_listFromTrustedArray.data.toList.drop 80 = dktJ2_listFromTrustedArray_4 := dk_seg dksJ2_listFromTrustedArray_3 26 rfl rfl
theorem dksJ2_listFromTrustedArray_5 : cJ2_listFromTrustedArray.data.toList.drop 104 = dktJ2_listFromTrustedArray_5 := dk_seg dksJ2_listFromTrustedArray_4 24 rfl rfl
theorem dJ2_listFromTrustedArray_0 : decode cJ2_listFromTrustedArray 0 = .ok (.getstatic 46, 3) := dk_178 0 46 (dk_at dksJ2_listFromTrustedArray_0 0 rfl rfl)
theorem dJ2_listFromTrustedArray_3 : decode cJ2_listFromTrustedArray 3 = .ok (.ifCond .ne 20, 3) := dk_154 0 20 (dk_at dksJ2_listFromTrustedArray_0 3 rfl rfl)
theorem dJ2_listFromTrustedArray_6 : decode cJ2_listFromTrustedArray 6 = .ok (.aload_n 0, 1) := dk_42 (dk_at dksJ2_listFromTrustedArray_0 6 rfl rfl)
theorem dJ2_listFromTrustedArray_7 : decode cJ2_listFromTrustedArray 7 = .ok (.invokevirtual 51, 3) := dk_182 0 51 (dk_at dksJ2_listFromTrustedArray_0 7 rfl rfl)
theorem dJ2_listFromTrustedArray_10 : decode cJ2_listFromTrustedArray 10 = .ok (.ldc 55, 2) := dk_18 55 (dk_at dksJ2_listFromTrustedArray_0 10 rfl rfl)
theorem dJ2_listFromTrustedArray_12 : decode cJ2_listFromTrustedArray 12 = .ok (.if_acmp .eq 11, 3) := dk_165 0 11 (dk_at dksJ2_listFromTrustedArray_0 12 rfl rfl)
theorem dJ2_listFromTrustedArray_15 : decode cJ2_listFromTrustedArray 15 = .ok (.new 57, 3) := dk_187 0 57 (dk_at dksJ2_listFromTrustedArray_0 15 rfl rfl)
theorem dJ2_listFromTrustedArray_18 : decode cJ2_listFromTrustedArray 18 = .ok (.dup, 1) := dk_89 (dk_at dksJ2_listFromTrustedArray_0 18 rfl rfl)
theorem dJ2_listFromTrustedArray_19 : decode cJ2_listFromTrustedArray 19 = .ok (.invokespecial 59, 3) := dk_183 0 59 (dk_at dksJ2_listFromTrustedArray_0 19 rfl rfl)
theorem dJ2_listFromTrustedArray_22 : decode cJ2_listFromTrustedArray 22 = .ok (.athrow, 1) := dk_191 (dk_at dksJ2_listFromTrustedArray_0 22 rfl rfl)
theorem dJ2_listFromTrustedArray_23 : decode cJ2_listFromTrustedArray 23 = .ok (.aload_n 0, 1) := dk_42 (dk_at dksJ2_listFromTrustedArray_0 23 rfl rfl)
theorem dJ2_listFromTrustedArray_24 : decode cJ2_listFromTrustedArray 24 = .ok (.astore_n 1, 1) := dk_76 (dk_at dksJ2_listFromTrustedArray_1 0 rfl rfl)
theorem dJ2_listFromTrustedArray_25 : decode cJ2_listFromTrustedArray 25 = .ok (.aload_n 1, 1) := dk_43 (dk_at dksJ2_listFromTrustedArray_1 1 rfl rfl)
theorem dJ2_listFromTrustedArray_26 : decode cJ2_listFromTrustedArray 26 = .ok (.arraylength, 1) := dk_190 (dk_at dksJ2_listFromTrustedArray_1 2 rfl rfl)
theorem dJ2_listFromTrustedArray_27 : decode cJ2_listFromTrustedArray 27 = .ok (.istore_n 2, 1) := dk_61 (dk_at dksJ2_listFromTrustedArray_1 3 rfl rfl)
theorem dJ2_listFromTrustedArray_28 : decode cJ2_listFromTrustedArray 28 = .ok (.iconst 0, 1) := dk_3 (dk_at dksJ2_listFromTrustedArray_1 4 rfl rfl)
theorem dJ2_listFromTrustedArray_29 : decode cJ2_listFromTrustedArray 29 = .ok (.istore_n 3, 1) := dk_62 (dk_at dksJ2_listFromTrustedArray_1 5 rfl rfl)
theorem dJ2_listFromTrustedArray_30 : decode cJ2_listFromTrustedArray 30 = .ok (.iload_n 3, 1) := dk_29 (dk_at dksJ2_listFromTrustedArray_1 6 rfl rfl)
theorem dJ2_listFromTrustedArray_31 : decode cJ2_listFromTrustedArray 31 = .ok (.iload_n 2, 1) := dk_28 (dk_at dksJ2_listFromTrustedArray_1 7 rfl rfl)
theorem dJ2_listFromTrustedArray_32 : decode cJ2_listFromTrustedArray 32 = .ok (.if_icmp .ge 20, 3) := dk_162 0 20 (dk_at dksJ2_listFromTrustedArray_1 8 rfl rfl)
theorem dJ2_listFromTrustedArray_35 : decode cJ2_listFromTrustedArray 35 = .ok (.aload_n 1, 1) := dk_43 (dk_at dksJ2_listFromTrustedArray_1 11 rfl rfl)
theorem dJ2_listFromTrustedArray_36 : decode cJ2_listFromTrustedArray 36 = .ok (.iload_n 3, 1) := dk_29 (dk_at dksJ2_listFromTrustedArray_1 12 rfl rfl)
theorem dJ2_listFromTrustedArray_37 : decode cJ2_listFromTrustedArray 37 = .ok (.aaload, 1) := dk_50 (dk_at dksJ2_listFromTrustedArray_1 13 rfl rfl)
theorem dJ2_listFromTrustedArray_38 : decode cJ2_listFromTrustedArray 38 = .ok (.astore 4, 2) := dk_58 4 (dk_at dksJ2_listFromTrustedArray_1 14 rfl rfl)
theorem dJ2_listFromTrustedArray_40 : decode cJ2_listFromTrustedArray 40 = .ok (.aload 4, 2) := dk_25 4 (dk_at dksJ2_listFromTrustedArray_1 16 rfl rfl)
theorem dJ2_listFromTrustedArray_42 : decode cJ2_listFromTrustedArray 42 = .ok (.invokestatic 37, 3) := dk_184 0 37 (dk_at dksJ2_listFromTrustedArray_1 18 rfl rfl)
theorem dJ2_listFromTrustedArray_45 : decode cJ2_listFromTrustedArray 45 = .ok (.pop, 1) := dk_87 (dk_at dksJ2_listFromTrustedArray_1 21 rfl rfl)
theorem dJ2_listFromTrustedArray_46 : decode cJ2_listFromTrustedArray 46 = .ok (.iinc 3 1, 3) := dk_132 3 1 (dk_at dksJ2_listFromTrustedArray_2 0 rfl rfl)
theorem dJ2_listFromTrustedArray_49 : decode cJ2_listFromTrustedArray 49 = .ok (.goto (-19), 3) := dk_167 255 237 (dk_at dksJ2_listFromTrustedArray_2 3 rfl rfl)
theorem dJ2_listFromTrustedArray_52 : decode cJ2_listFromTrustedArray 52 = .ok (.aload_n 0, 1) := dk_42 (dk_at dksJ2_listFromTrustedArray_2 6 rfl rfl)
theorem dJ2_listFromTrustedArray_53 : decode cJ2_listFromTrustedArray 53 = .ok (.arraylength, 1) := dk_190 (dk_at dksJ2_listFromTrustedArray_2 7 rfl rfl)
theorem dJ2_listFromTrustedArray_54 : decode cJ2_listFromTrustedArray 54 = .ok (.tableswitch 61 0 2 #[26, 32, 45], 26) := by decide +kernel
theorem dJ2_listFromTrustedArray_80 : decode cJ2_listFromTrustedArray 80 = .ok (.getstatic 60, 3) := dk_178 0 60 (dk_at dksJ2_listFromTrustedArray_4 0 rfl rfl)
theorem dJ2_listFromTrustedArray_83 : decode cJ2_listFromTrustedArray 83 = .ok (.goto 41, 3) := dk_167 0 41 (dk_at dksJ2_listFromTrustedArray_4 3 rfl rfl)
theorem dJ2_listFromTrustedArray_86 : decode cJ2_listFromTrustedArray 86 = .ok (.new 10, 3) := dk_187 0 10 (dk_at dksJ2_listFromTrustedArray_4 6 rfl rfl)
theorem dJ2_listFromTrustedArray_89 : decode cJ2_listFromTrustedArray 89 = .ok (.dup, 1) := dk_89 (dk_at dksJ2_listFromTrustedArray_4 9 rfl rfl)
theorem dJ2_listFromTrustedArray_90 : decode cJ2_listFromTrustedArray 90 = .ok (.aload_n 0, 1) := dk_42 (dk_at dksJ2_listFromTrustedArray_4 10 rfl rfl)
theorem dJ2_listFromTrustedArray_91 : decode cJ2_listFromTrustedArray 91 = .ok (.iconst 0, 1) := dk_3 (dk_at dksJ2_listFromTrustedArray_4 11 rfl rfl)
theorem dJ2_listFromTrustedArray_92 : decode cJ2_listFromTrustedArray 92 = .ok (.aaload, 1) := dk_50 (dk_at dksJ2_listFromTrustedArray_4 12 rfl rfl)
theorem dJ2_listFromTrustedArray_93 : decode cJ2_listFromTrustedArray 93 = .ok (.invokespecial 64, 3) := dk_183 0 64 (dk_at dksJ2_listFromTrustedArray_4 13 rfl rfl)
theorem dJ2_listFromTrustedArray_96 : decode cJ2_listFromTrustedArray 96 = .ok (.goto 28, 3) := dk_167 0 28 (dk_at dksJ2_listFromTrustedArray_4 16 rfl rfl)
theorem dJ2_listFromTrustedArray_99 : decode cJ2_listFromTrustedArray 99 = .ok (.new 10, 3) := dk_187 0 10 (dk_at dksJ2_listFromTrustedArray_4 19 rfl rfl)
theorem dJ2_listFromTrustedArray_102 : decode cJ2_listFromTrustedArray 102 = .ok (.dup, 1) := dk_89 (dk_at dksJ2_listFromTrustedArray_4 22 rfl rfl)
theorem dJ2_listFromTrustedArray_103 : decode cJ2_listFromTrustedArray 103 = .ok (.aload_n 0, 1) := dk_42 (dk_at dksJ2_listFromTrustedArray_4 23 rfl rfl)
theorem dJ2_listFromTrustedArray_104 : decode cJ2_listFromTrustedArray 104 = .ok (.iconst 0, 1) := dk_3 (dk_at dksJ2_listFromTrustedArray_5 0 rfl rfl)
theorem dJ2_listFromTrustedArray_105 : decode cJ2_listFromTrustedArray 105 = .ok (.aaload, 1) := dk_50 (dk_at dksJ2_listFromTrustedArray_5 1 rfl rfl)
theorem dJ2_listFromTrustedArray_106 : decode cJ2_listFromTrustedArray 106 = .ok (.aload_n 0, 1) := dk_42 (dk_at dksJ2_listFromTrustedArray_5 2 rfl rfl)
theorem dJ2_listFromTrustedArray_107 : decode cJ2_listFromTrustedArray 107 = .ok (.iconst 1, 1) := dk_4 (dk_at dksJ2_listFromTrustedArray_5 3 rfl rfl)
theorem dJ2_listFromTrustedArray_108 : decode cJ2_listFromTrustedArray 108 = .ok (.aaload, 1) := dk_50 (dk_at dksJ2_listFromTrustedArray_5 4 rfl rfl)
theorem dJ2_listFromTrustedArray_109 : decode cJ2_listFromTrustedArray 109 = .ok (.invokespecial 67, 3) := dk_183 0 67 (dk_at dksJ2_listFromTrustedArray_5 5 rfl rfl)
theorem dJ2_listFromTrustedArray_112 : decode cJ2_listFromTrustedArray 112 = .ok (.goto 12, 3) := dk_167 0 12 (dk_at dksJ2_listFromTrustedArray_5 8 rfl rfl)
theorem dJ2_listFromTrustedArray_115 : decode cJ2_listFromTrustedArray 115 = .ok (.new 12, 3) := dk_187 0 12 (dk_at dksJ2_listFromTrustedArray_5 11 rfl rfl)
theorem dJ2_listFromTrustedArray_118 : decode cJ2_listFromTrustedArray 118 = .ok (.dup, 1) := dk_89 (dk_at dksJ2_listFromTrustedArray_5 14 rfl rfl)
theorem dJ2_listFromTrustedArray_119 : decode cJ2_listFromTrustedArray 119 = .ok (.aload_n 0, 1) := dk_42 (dk_at dksJ2_listFromTrustedArray_5 15 rfl rfl)
theorem dJ2_listFromTrustedArray_120 : decode cJ2_listFromTrustedArray 120 = .ok (.iconst 0, 1) := dk_3 (dk_at dksJ2_listFromTrustedArray_5 16 rfl rfl)
theorem dJ2_listFromTrustedArray_121 : decode cJ2_listFromTrustedArray 121 = .ok (.invokespecial 43, 3) := dk_183 0 43 (dk_at dksJ2_listFromTrustedArray_5 17 rfl rfl)
theorem dJ2_listFromTrustedArray_124 : decode cJ2_listFromTrustedArray 124 = .ok (.areturn, 1) := dk_176 (dk_at dksJ2_listFromTrustedArray_5 20 rfl rfl)
def dkwJ3_requireNonNull_0 : List UInt8 := [42, 199, 0, 11, 187, 0, 84, 89, 183, 0, 86, 191, 42, 176]
abbrev dktJ3_requireNonNull_0 : List UInt8 := dkwJ3_requireNonNull_0 ++ []
theorem dksJ3_requireNonNull_0 : cJ3_requireNonNull.data.toList.drop 0 = dktJ3_requireNonNull_0 := by decide +kernel
theorem dJ3_requireNonNull_0 : decode cJ3_requireNonNull 0 = .ok (.aload_n 0, 1) := dk_42 (dk_at dksJ3_requireNonNull_0 0 rfl rfl)
theorem dJ3_requireNonNull_1 : decode cJ3_requireNonNull 1 = .ok (.ifnonnull 11, 3) := dk_199 0 11 (dk_at dksJ3_requireNonNull_0 1 rfl rfl)
theorem dJ3_requireNonNull_4 : decode cJ3_requireNonNull 4 = .ok (.new 84, 3) := dk_187 0 84 (dk_at dksJ3_requireNonNull_0 4 rfl rfl)
theorem dJ3_requireNonNull_7 : decode cJ3_requireNonNull 7 = .ok (.dup, 1) := dk_89 (dk_at dksJ3_requireNonNull_0 7 rfl rfl)
theorem dJ3_requireNonNull_8 : decode cJ3_requireNonNull 8 = .ok (.invokespecial 86, 3) := dk_183 0 86 (dk_at dksJ3_requireNonNull_0 8 rfl rfl)
theorem dJ3_requireNonNull_11 : decode cJ3_requireNonNull 11 = .ok (.athrow, 1) := dk_191 (dk_at dksJ3_requireNonNull_0 11 rfl rfl)
theorem dJ3_requireNonNull_12 : decode cJ3_requireNonNull 12 = .ok (.aload_n 0, 1) := dk_42 (dk_at dksJ3_requireNonNull_0 12 rfl rfl)
theorem dJ3_requireNonNull_13 : decode cJ3_requireNonNull 13 = .ok (.areturn, 1) := dk_176 (dk_at dksJ3_requireNonNull_0 13 rfl rfl)
theorem dJ4_init_0 : decode cJ4_init 0 = .ok (.aload_n 0, 1) := by decide +kernel
theorem dJ4_init_1 : decode cJ4_init 1 = .ok (.invokespecial 1, 3) := by decide +kernel
theorem dJ4_init_4 : decode cJ4_init 4 = .ok (.return_, 1) := by decide +kernel
def dkwJ4_isEmpty_0 : List UInt8 := [42, 182, 0, 7, 154, 0, 7, 4, 167, 0, 4, 3, 172]
abbrev dktJ4_isEmpty_0 : List UInt8 := dkwJ4_isEmpty_0 ++ []
theorem dksJ4_isEmpty_0 : cJ4_isEmpty.data.toList.drop 0 = dktJ4_isEmpty_0 := by decide +kernel
theorem dJ4_isEmpty_0 : decode cJ4_isEmpty 0 = .ok (.aload_n 0, 1) := dk_42 (dk_at dksJ4_isEmpty_0 0 rfl rfl)
theorem dJ4_isEmpty_1 : decode cJ4_isEmpty 1 = .ok (.invokevirtual 7, 3) := dk_182 0 7 (dk_at dksJ4_isEmpty_0 1 rfl rfl)
theorem dJ4_isEmpty_4 : decode cJ4_isEmpty 4 = .ok (.ifCond .ne 7, 3) := dk_154 0 7 (dk_at dksJ4_isEmpty_0 4 rfl rfl)
theorem dJ4_isEmpty_7 : decode cJ4_isEmpty 7 = .ok (.iconst 1, 1) := dk_4 (dk_at dksJ4_isEmpty_0 7 rfl rfl)
theorem dJ4_isEmpty_8 : decode cJ4_isEmpty 8 = .ok (.goto 4, 3) := dk_167 0 4 (dk_at dksJ4_isEmpty_0 8 rfl rfl)
theorem dJ4_isEmpty_11 : decode cJ4_isEmpty 11 = .ok (.iconst 0, 1) := dk_3 (dk_at dksJ4_isEmpty_0 11 rfl rfl)
theorem dJ4_isEmpty_12 : decode cJ4_isEmpty 12 = .ok (.ireturn, 1) := dk_172 (dk_at dksJ4_isEmpty_0 12 rfl rfl)
theorem dJ5_init_0 : decode cJ5_init 0 = .ok (.aload_n 0, 1) := by decide +kernel
theorem dJ5_init_1 : decode cJ5_init 1 = .ok (.invokespecial 1, 3) := by decide +kernel
theorem dJ5_init_4 : decode cJ5_init 4 = .ok (.return_, 1) := by decide +kernel
theorem dJ6_init_0 : decode cJ6_init 0 = .ok (.aload_n 0, 1) := by decide +kernel
theorem dJ6_init_1 : decode cJ6_init 1 = .ok (.invokespecial 1, 3) := by decide +kernel
theorem dJ6_init_4 : decode cJ6_init 4 = .ok (.return_, 1) := by decide +kernel
def dkwJ6_iterator_0 : List UInt8 := [187, 0, 61, 89, 42, 42, 182, 0, 13, 183, 0, 63, 176]
abbrev dktJ6_iterator_0 : List UInt8 := dkwJ6_iterator_0 ++ []
theorem dksJ6_iterator_0 : cJ6_iterator.data.toList.drop 0 = dktJ6_iterator_0 := by decide +kernel
theorem dJ6_iterator_0 : decode cJ6_iterator 0 = .ok (.new 61, 3) := dk_187 0 61 (dk_at dksJ6_iterator_0 0 rfl rfl)
theorem dJ6_iterator_3 : decode cJ6_iterator 3 = .ok (.dup, 1) := dk_89 (dk_at dksJ6_iterator_0 3 rfl rfl)
theorem dJ6_iterator_4 : decode cJ6_iterator 4 = .ok (.aload_n 0, 1) := dk_42 (dk_at dksJ6_iterator_0 4 rfl rfl)
theorem dJ6_iterator_5 : decode cJ6_iterator 5 = .ok (.aload_n 0, 1) := dk_42 (dk_at dksJ6_iterator_0 5 rfl rfl)
theorem dJ6_iterator_6 : decode cJ6_iterator 6 = .ok (.invokevirtual 13, 3) := dk_182 0 13 (dk_at dksJ6_iterator_0 6 rfl rfl)
theorem dJ6_iterator_9 : decode cJ6_iterator 9 = .ok (.invokespecial 63, 3) := dk_183 0 63 (dk_at dksJ6_iterator_0 9 rfl rfl)
theorem dJ6_iterator_12 : decode cJ6_iterator 12 = .ok (.areturn, 1) := dk_176 (dk_at dksJ6_iterator_0 12 rfl rfl)
def dkwJ7_init_0 : List UInt8 := [42, 183, 0, 1, 42, 43, 184, 0, 7, 181, 0, 13, 42, 178, 0, 19, 181, 0, 24, 177]
abbrev dktJ7_init_0 : List UInt8 := dkwJ7_init_0 ++ []
theorem dksJ7_init_0 : cJ7_init.data.toList.drop 0 = dktJ7_init_0 := by decide +kernel
theorem dJ7_init_0 : decode cJ7_init 0 = .ok (.aload_n 0, 1) := dk_42 (dk_at dksJ7_init_0 0 rfl rfl)
theorem dJ7_init_1 : decode cJ7_init 1 = .ok (.invokespecial 1, 3) := dk_183 0 1 (dk_at dksJ7_init_0 1 rfl rfl)
theorem dJ7_init_4 : decode cJ7_init 4 = .ok (.aload_n 0, 1) := dk_42 (dk_at dksJ7_init_0 4 rfl rfl)
theorem dJ7_init_5 : decode cJ7_init 5 = .ok (.aload_n 1, 1) := dk_43 (dk_at dksJ7_init_0 5 rfl rfl)
theorem dJ7_init_6 : decode cJ7_init 6 = .ok (.invokestatic 7, 3) := dk_184 0 7 (dk_at dksJ7_init_0 6 rfl rfl)
theorem dJ7_init_9 : decode cJ7_init 9 = .ok (.putfield 13, 3) := dk_181 0 13 (dk_at dksJ7_init_0 9 rfl rfl)
theorem dJ7_init_12 : decode cJ7_init 12 = .ok (.aload_n 0, 1) := dk_42 (dk_at dksJ7_init_0 12 rfl rfl)
theorem dJ7_init_13 : decode cJ7_init 13 = .ok (.getstatic 19, 3) := dk_178 0 19 (dk_at dksJ7_init_0 13 rfl rfl)
theorem dJ7_init_16 : decode cJ7_init 16 = .ok (.putfield 24, 3) := dk_181 0 24 (dk_at dksJ7_init_0 16 rfl rfl)
theorem dJ7_init_19 : decode cJ7_init 19 = .ok (.return_, 1) := dk_177 (dk_at dksJ7_init_0 19 rfl rfl)
def dkwJ7_init_2_0 : List UInt8 := [42, 183, 0, 1, 42, 43, 184, 0, 7, 181, 0, 13, 42, 44, 184, 0, 7, 181, 0, 24, 177]
abbrev dktJ7_init_2_0 : List UInt8 := dkwJ7_init_2_0 ++ []
theorem dksJ7_init_2_0 : cJ7_init_2.data.toList.drop 0 = dktJ7_init_2_0 := by decide +kernel
theorem dJ7_init_2_0 : decode cJ7_init_2 0 = .ok (.aload_n 0, 1) := dk_42 (dk_at dksJ7_init_2_0 0 rfl rfl)
theorem dJ7_init_2_1 : decode cJ7_init_2 1 = .ok (.invokespecial 1, 3) := dk_183 0 1 (dk_at dksJ7_init_2_0 1 rfl rfl)
theorem dJ7_init_2_4 : decode cJ7_init_2 4 = .ok (.aload_n 0, 1) := dk_42 (dk_at dksJ7_init_2_0 4 rfl rfl)
theorem dJ7_init_2_5 : decode cJ7_init_2 5 = .ok (.aload_n 1, 1) := dk_43 (dk_at dksJ7_init_2_0 5 rfl rfl)
theorem dJ7_init_2_6 : decode cJ7_init_2 6 = .ok (.invokestatic 7, 3) := dk_184 0 7 (dk_at dksJ7_init_2_0 6 rfl rfl)
theorem dJ7_init_2_9 : decode cJ7_init_2 9 = .ok (.putfield 13, 3) := dk_181 0 13 (dk_at dksJ7_init_2_0 9 rfl rfl)
theorem dJ7_init_2_12 : decode cJ7_init_2 12 = .ok (.aload_n 0, 1) := dk_42 (dk_at dksJ7_init_2_0 12 rfl rfl)
theorem dJ7_init_2_13 : decode cJ7_init_2 13 = .ok (.aload_n 2, 1) := dk_44 (dk_at dksJ7_init_2_0 13 rfl rfl)
theorem dJ7_init_2_14 : decode cJ7_init_2 14 = .ok (.invokestatic 7, 3) := dk_184 0 7 (dk_at dksJ7_init_2_0 14 rfl rfl)
theorem dJ7_init_2_17 : decode cJ7_init_2 17 = .ok (.putfield 24, 3) := dk_181 0 24 (dk_at dksJ7_init_2_0 17 rfl rfl)
theorem dJ7_init_2_20 : decode cJ7_init_2 20 = .ok (.return_, 1) := dk_177 (dk_at dksJ7_init_2_0 20 rfl rfl)
def dkwJ7_toArray_1 : List UInt8 := [189, 0, 32, 89, 3, 42, 180, 0, 13, 83, 89, 4, 42, 180, 0, 24, 83, 176]
abbrev dktJ7_toArray_1 : List UInt8 := dkwJ7_toArray_1 ++ []
def dkwJ7_toArray_0 : List UInt8 := [42, 180, 0, 24, 178, 0, 19, 166, 0, 15, 4, 189, 0, 32, 89, 3, 42, 180, 0, 13, 83, 176, 5]
abbrev dktJ7_toArray_0 : List UInt8 := dkwJ7_toArray_0 ++ dktJ7_toArray_1
theorem dksJ7_toArray_0 : cJ7_toArray.data.toList.drop 0 = dktJ7_toArray_0 := by decide +kernel
theorem dksJ7_toArray_1 : cJ7_toArray.data.toList.drop 23 = dktJ7_toArray_1 := dk_seg dksJ7_toArray_0 23 rfl rfl
theorem dJ7_toArray_0 : decode cJ7_toArray 0 = .ok (.aload_n 0, 1) := dk_42 (dk_at dksJ7_toArray_0 0 rfl rfl)
theorem dJ7_toArray_1 : decode cJ7_toArray 1 = .ok (.getfield 24, 3) := dk_180 0 24 (dk_at dksJ7_toArray_0 1 rfl rfl)
theorem dJ7_toArray_4 : decode cJ7_toArray 4 = .ok (.getstatic 19, 3) := dk_178 0 19 (dk_at dksJ7_toArray_0 4 rfl rfl)
theorem dJ7_toArray_7 : decode cJ7_toArray 7 = .ok (.if_acmp .ne 15, 3) := dk_166 0 15 (dk_at dksJ7_toArray_0 7 rfl rfl)
theorem dJ7_toArray_10 : decode cJ7_toArray 10 = .ok (.iconst 1, 1) := dk_4 (dk_at dksJ7_toArray_0 10 rfl rfl)
theorem dJ7_toArray_11 : decode cJ7_toArray 11 = .ok (.anewarray 32, 3) := dk_189 0 32 (dk_at dksJ7_toArray_0 11 rfl rfl)
theorem dJ7_toArray_14 : decode cJ7_toArray 14 = .ok (.dup, 1) := dk_89 (dk_at dksJ7_toArray_0 14 rfl rfl)
theorem dJ7_toArray_15 : decode cJ7_toArray 15 = .ok (.iconst 0, 1) := dk_3 (dk_at dksJ7_toArray_0 15 rfl rfl)
theorem dJ7_toArray_16 : decode cJ7_toArray 16 = .ok (.aload_n 0, 1) := dk_42 (dk_at dksJ7_toArray_0 16 rfl rfl)
theorem dJ7_toArray_17 : decode cJ7_toArray 17 = .ok (.getfield 13, 3) := dk_180 0 13 (dk_at dksJ7_toArray_0 17 rfl rfl)
theorem dJ7_toArray_20 : decode cJ7_toArray 20 = .ok (.aastore, 1) := dk_83 (dk_at dksJ7_toArray_0 20 rfl rfl)
theorem dJ7_toArray_21 : decode cJ7_toArray 21 = .ok (.areturn, 1) := dk_176 (dk_at dksJ7_toArray_0 21 rfl rfl)
theorem dJ7_toArray_22 : decode cJ7_toArray 22 = .ok (.iconst 2, 1) := dk_5 (dk_at dksJ7_toArray_0 22 rfl rfl)
theorem dJ7_toArray_23 : decode cJ7_toArray 23 = .ok (.anewarray 32, 3) := dk_189 0 32 (dk_at dksJ7_toArray_1 0 rfl rfl)
theorem dJ7_toArray_26 : decode cJ7_toArray 26 = .ok (.dup, 1) := dk_89 (dk_at dksJ7_toArray_1 3 rfl rfl)
theorem dJ7_toArray_27 : decode cJ7_toArray 27 = .ok (.iconst 0, 1) := dk_3 (dk_at dksJ7_toArray_1 4 rfl rfl)
theorem dJ7_toArray_28 : decode cJ7_toArray 28 = .ok (.aload_n 0, 1) := dk_42 (dk_at dksJ7_toArray_1 5 rfl rfl)
theorem dJ7_toArray_29 : decode cJ7_toArray 29 = .ok (.getfield 13, 3) := dk_180 0 13 (dk_at dksJ7_toArray_1 6 rfl rfl)
theorem dJ7_toArray_32 : decode cJ7_toArray 32 = .ok (.aastore, 1) := dk_83 (dk_at dksJ7_toArray_1 9 rfl rfl)
theorem dJ7_toArray_33 : decode cJ7_toArray 33 = .ok (.dup, 1) := dk_89 (dk_at dksJ7_toArray_1 10 rfl rfl)
theorem dJ7_toArray_34 : decode cJ7_toArray 34 = .ok (.iconst 1, 1) := dk_4 (dk_at dksJ7_toArray_1 11 rfl rfl)
theorem dJ7_toArray_35 : decode cJ7_toArray 35 = .ok (.aload_n 0, 1) := dk_42 (dk_at dksJ7_toArray_1 12 rfl rfl)
theorem dJ7_toArray_36 : decode cJ7_toArray 36 = .ok (.getfield 24, 3) := dk_180 0 24 (dk_at dksJ7_toArray_1 13 rfl rfl)
theorem dJ7_toArray_39 : decode cJ7_toArray 39 = .ok (.aastore, 1) := dk_83 (dk_at dksJ7_toArray_1 16 rfl rfl)
theorem dJ7_toArray_40 : decode cJ7_toArray 40 = .ok (.areturn, 1) := dk_176 (dk_at dksJ7_toArray_1 17 rfl rfl)
def dkwJ7_size_0 : List UInt8 := [42, 180, 0, 24, 178, 0, 19, 165, 0, 7, 5, 167, 0, 4, 4, 172]
abbrev dktJ7_size_0 : List UInt8 := dkwJ7_size_0 ++ []
theorem dksJ7_size_0 : cJ7_size.data.toList.drop 0 = dktJ7_size_0 := by decide +kernel
theorem dJ7_size_0 : decode cJ7_size 0 = .ok (.aload_n 0, 1) := dk_42 (dk_at dksJ7_size_0 0 rfl rfl)
theorem dJ7_size_1 : decode cJ7_size 1 = .ok (.getfield 24, 3) := dk_180 0 24 (dk_at dksJ7_size_0 1 rfl rfl)
theorem dJ7_size_4 : decode cJ7_size 4 = .ok (.getstatic 19, 3) := dk_178 0 19 (dk_at dksJ7_size_0 4 rfl rfl)
theorem dJ7_size_7 : decode cJ7_size 7 = .ok (.if_acmp .eq 7, 3) := dk_165 0 7 (dk_at dksJ7_size_0 7 rfl rfl)
theorem dJ7_size_10 : decode cJ7_size 10 = .ok (.iconst 2, 1) := dk_5 (dk_at dksJ7_size_0 10 rfl rfl)
theorem dJ7_size_11 : decode cJ7_size 11 = .ok (.goto 4, 3) := dk_167 0 4 (dk_at dksJ7_size_0 11 rfl rfl)
theorem dJ7_size_14 : decode cJ7_size 14 = .ok (.iconst 1, 1) := dk_4 (dk_at dksJ7_size_0 14 rfl rfl)
theorem dJ7_size_15 : decode cJ7_size 15 = .ok (.ireturn, 1) := dk_172 (dk_at dksJ7_size_0 15 rfl rfl)
def dkwJ7_get_1 : List UInt8 := [42, 180, 0, 24, 176, 42, 27, 182, 0, 27, 191]
abbrev dktJ7_get_1 : List UInt8 := dkwJ7_get_1 ++ []
def dkwJ7_get_0 : List UInt8 := [27, 154, 0, 8, 42, 180, 0, 13, 176, 27, 4, 160, 0, 18, 42, 180, 0, 24, 178, 0, 19, 165, 0, 8]
abbrev dktJ7_get_0 : List UInt8 := dkwJ7_get_0 ++ dktJ7_get_1
theorem dksJ7_get_0 : cJ7_get.data.toList.drop 0 = dktJ7_get_0 := by decide +kernel
theorem dksJ7_get_1 : cJ7_get.data.toList.drop 24 = dktJ7_get_1 := dk_seg dksJ7_get_0 24 rfl rfl
theorem dJ7_get_0 : decode cJ7_get 0 = .ok (.iload_n 1, 1) := dk_27 (dk_at dksJ7_get_0 0 rfl rfl)
theorem dJ7_get_1 : decode cJ7_get 1 = .ok (.ifCond .ne 8, 3) := dk_154 0 8 (dk_at dksJ7_get_0 1 rfl rfl)
theorem dJ7_get_4 : decode cJ7_get 4 = .ok (.aload_n 0, 1) := dk_42 (dk_at dksJ7_get_0 4 rfl rfl)
theorem dJ7_get_5 : decode cJ7_get 5 = .ok (.getfield 13, 3) := dk_180 0 13 (dk_at dksJ7_get_0 5 rfl rfl)
theorem dJ7_get_8 : decode cJ7_get 8 = .ok (.areturn, 1) := dk_176 (dk_at dksJ7_get_0 8 rfl rfl)
theorem dJ7_get_9 : decode cJ7_get 9 = .ok (.iload_n 1, 1) := dk_27 (dk_at dksJ7_get_0 9 rfl rfl)
theorem dJ7_get_10 : decode cJ7_get 10 = .ok (.iconst 1, 1) := dk_4 (dk_at dksJ7_get_0 10 rfl rfl)
theorem dJ7_get_11 : decode cJ7_get 11 = .ok (.if_icmp .ne 18, 3) := dk_160 0 18 (dk_at dksJ7_get_0 11 rfl rfl)
theorem dJ7_get_14 : decode cJ7_get 14 = .ok (.aload_n 0, 1) := dk_42 (dk_at dksJ7_get_0 14 rfl rfl)
theorem dJ7_get_15 : decode cJ7_get 15 = .ok (.getfield 24, 3) := dk_180 0 24 (dk_at dksJ7_get_0 15 rfl rfl)
theorem dJ7_get_18 : decode cJ7_get 18 = .ok (.getstatic 19, 3) := dk_178 0 19 (dk_at dksJ7_get_0 18 rfl rfl)
theorem dJ7_get_21 : decode cJ7_get 21 = .ok (.if_acmp .eq 8, 3) := dk_165 0 8 (dk_at dksJ7_get_0 21 rfl rfl)
theorem dJ7_get_24 : decode cJ7_get 24 = .ok (.aload_n 0, 1) := dk_42 (dk_at dksJ7_get_1 0 rfl rfl)
theorem dJ7_get_25 : decode cJ7_get 25 = .ok (.getfield 24, 3) := dk_180 0 24 (dk_at dksJ7_get_1 1 rfl rfl)
theorem dJ7_get_28 : decode cJ7_get 28 = .ok (.areturn, 1) := dk_176 (dk_at dksJ7_get_1 4 rfl rfl)
theorem dJ7_get_29 : decode cJ7_get 29 = .ok (.aload_n 0, 1) := dk_42 (dk_at dksJ7_get_1 5 rfl rfl)
theorem dJ7_get_30 : decode cJ7_get 30 = .ok (.iload_n 1, 1) := dk_27 (dk_at dksJ7_get_1 6 rfl rfl)
theorem dJ7_get_31 : decode cJ7_get 31 = .ok (.invokevirtual 27, 3) := dk_182 0 27 (dk_at dksJ7_get_1 7 rfl rfl)
theorem dJ7_get_34 : decode cJ7_get 34 = .ok (.athrow, 1) := dk_191 (dk_at dksJ7_get_1 10 rfl rfl)
def dkwJ8_init_0 : List UInt8 := [42, 183, 0, 1, 42, 43, 181, 0, 7, 42, 28, 181, 0, 13, 177]
abbrev dktJ8_init_0 : List UInt8 := dkwJ8_init_0 ++ []
theorem dksJ8_init_0 : cJ8_init.data.toList.drop 0 = dktJ8_init_0 := by decide +kernel
theorem dJ8_init_0 : decode cJ8_init 0 = .ok (.aload_n 0, 1) := dk_42 (dk_at dksJ8_init_0 0 rfl rfl)
theorem dJ8_init_1 : decode cJ8_init 1 = .ok (.invokespecial 1, 3) := dk_183 0 1 (dk_at dksJ8_init_0 1 rfl rfl)
theorem dJ8_init_4 : decode cJ8_init 4 = .ok (.aload_n 0, 1) := dk_42 (dk_at dksJ8_init_0 4 rfl rfl)
theorem dJ8_init_5 : decode cJ8_init 5 = .ok (.aload_n 1, 1) := dk_43 (dk_at dksJ8_init_0 5 rfl rfl)
theorem dJ8_init_6 : decode cJ8_init 6 = .ok (.putfield 7, 3) := dk_181 0 7 (dk_at dksJ8_init_0 6 rfl rfl)
theorem dJ8_init_9 : decode cJ8_init 9 = .ok (.aload_n 0, 1) := dk_42 (dk_at dksJ8_init_0 9 rfl rfl)
theorem dJ8_init_10 : decode cJ8_init 10 = .ok (.iload_n 2, 1) := dk_28 (dk_at dksJ8_init_0 10 rfl rfl)
theorem dJ8_init_11 : decode cJ8_init 11 = .ok (.putfield 13, 3) := dk_181 0 13 (dk_at dksJ8_init_0 11 rfl rfl)
theorem dJ8_init_14 : decode cJ8_init 14 = .ok (.return_, 1) := dk_177 (dk_at dksJ8_init_0 14 rfl rfl)
def dkwJ8_toArray_0 : List UInt8 := [42, 180, 0, 7, 42, 180, 0, 7, 190, 184, 0, 29, 176]
abbrev dktJ8_toArray_0 : List UInt8 := dkwJ8_toArray_0 ++ []
theorem dksJ8_toArray_0 : cJ8_toArray.data.toList.drop 0 = dktJ8_toArray_0 := by decide +kernel
theorem dJ8_toArray_0 : decode cJ8_toArray 0 = .ok (.aload_n 0, 1) := dk_42 (dk_at dksJ8_toArray_0 0 rfl rfl)
theorem dJ8_toArray_1 : decode cJ8_toArray 1 = .ok (.getfield 7, 3) := dk_180 0 7 (dk_at dksJ8_toArray_0 1 rfl rfl)
theorem dJ8_toArray_4 : decode cJ8_toArray 4 = .ok (.aload_n 0, 1) := dk_42 (dk_at dksJ8_toArray_0 4 rfl rfl)
theorem dJ8_toArray_5 : decode cJ8_toArray 5 = .ok (.getfield 7, 3) := dk_180 0 7 (dk_at dksJ8_toArray_0 5 rfl rfl)
theorem dJ8_toArray_8 : decode cJ8_toArray 8 = .ok (.arraylength, 1) := dk_190 (dk_at dksJ8_toArray_0 8 rfl rfl)
theorem dJ8_toArray_9 : decode cJ8_toArray 9 = .ok (.invokestatic 29, 3) := dk_184 0 29 (dk_at dksJ8_toArray_0 9 rfl rfl)
theorem dJ8_toArray_12 : decode cJ8_toArray 12 = .ok (.areturn, 1) := dk_176 (dk_at dksJ8_toArray_0 12 rfl rfl)
def dkwJ8_size_0 : List UInt8 := [42, 180, 0, 7, 190, 172]
abbrev dktJ8_size_0 : List UInt8 := dkwJ8_size_0 ++ []
theorem dksJ8_size_0 : cJ8_size.data.toList.drop 0 = dktJ8_size_0 := by decide +kernel
theorem dJ8_size_0 : decode cJ8_size 0 = .ok (.aload_n 0, 1) := dk_42 (dk_at dksJ8_size_0 0 rfl rfl)
theorem dJ8_size_1 : decode cJ8_size 1 = .ok (.getfield 7, 3) := dk_180 0 7 (dk_at dksJ8_size_0 1 rfl rfl)
theorem dJ8_size_4 : decode cJ8_size 4 = .ok (.arraylength, 1) := dk_190 (dk_at dksJ8_size_0 4 rfl rfl)
theorem dJ8_size_5 : decode cJ8_size 5 = .ok (.ireturn, 1) := dk_172 (dk_at dksJ8_size_0 5 rfl rfl)
def dkwJ8_get_0 : List UInt8 := [42, 180, 0, 7, 27, 50, 176]
abbrev dktJ8_get_0 : List UInt8 := dkwJ8_get_0 ++ []
theorem dksJ8_get_0 : cJ8_get.data.toList.drop 0 = dktJ8_get_0 := by decide +kernel
theorem dJ8_get_0 : decode cJ8_get 0 = .ok (.aload_n 0, 1) := dk_42 (dk_at dksJ8_get_0 0 rfl rfl)
theorem dJ8_get_1 : decode cJ8_get 1 = .ok (.getfield 7, 3) := dk_180 0 7 (dk_at dksJ8_get_0 1 rfl rfl)
theorem dJ8_get_4 : decode cJ8_get 4 = .ok (.iload_n 1, 1) := dk_27 (dk_at dksJ8_get_0 4 rfl rfl)
theorem dJ8_get_5 : decode cJ8_get 5 = .ok (.aaload, 1) := dk_50 (dk_at dksJ8_get_0 5 rfl rfl)
theorem dJ8_get_6 : decode cJ8_get 6 = .ok (.areturn, 1) := dk_176 (dk_at dksJ8_get_0 6 rfl rfl)
def dkwJ9_init_0 : List UInt8 := [42, 183, 0, 1, 42, 3, 181, 0, 7, 177]
abbrev dktJ9_init_0 : List UInt8 := dkwJ9_init_0 ++ []
theorem dksJ9_init_0 : cJ9_init.data.toList.drop 0 = dktJ9_init_0 := by decide +kernel
theorem dJ9_init_0 : decode cJ9_init 0 = .ok (.aload_n 0, 1) := dk_42 (dk_at dksJ9_init_0 0 rfl rfl)
theorem dJ9_init_1 : decode cJ9_init 1 = .ok (.invokespecial 1, 3) := dk_183 0 1 (dk_at dksJ9_init_0 1 rfl rfl)
theorem dJ9_init_4 : decode cJ9_init 4 = .ok (.aload_n 0, 1) := dk_42 (dk_at dksJ9_init_0 4 rfl rfl)
theorem dJ9_init_5 : decode cJ9_init 5 = .ok (.iconst 0, 1) := dk_3 (dk_at dksJ9_init_0 5 rfl rfl)
theorem dJ9_init_6 : decode cJ9_init 6 = .ok (.putfield 7, 3) := dk_181 0 7 (dk_at dksJ9_init_0 6 rfl rfl)
theorem dJ9_init_9 : decode cJ9_init 9 = .ok (.return_, 1) := dk_177 (dk_at dksJ9_init_0 9 rfl rfl)
def dkwJ9_listIterator_0 : List UInt8 := [42, 3, 182, 0, 47, 176]
abbrev dktJ9_listIterator_0 : List UInt8 := dkwJ9_listIterator_0 ++ []
theorem dksJ9_listIterator_0 : cJ9_listIterator.data.toList.drop 0 = dktJ9_listIterator_0 := by decide +kernel
theorem dJ9_listIterator_0 : decode cJ9_listIterator 0 = .ok (.aload_n 0, 1) := dk_42 (dk_at dksJ9_listIterator_0 0 rfl rfl)
theorem dJ9_listIterator_1 : decode cJ9_listIterator 1 = .ok (.iconst 0, 1) := dk_3 (dk_at dksJ9_listIterator_0 1 rfl rfl)
theorem dJ9_listIterator_2 : decode cJ9_listIterator 2 = .ok (.invokevirtual 47, 3) := dk_182 0 47 (dk_at dksJ9_listIterator_0 2 rfl rfl)
theorem dJ9_listIterator_5 : decode cJ9_listIterator 5 = .ok (.areturn, 1) := dk_176 (dk_at dksJ9_listIterator_0 5 rfl rfl)
theorem dJ10_init_0 : decode cJ10_init 0 = .ok (.aload_n 0, 1) := by decide +kernel
theorem dJ10_init_1 : decode cJ10_init 1 = .ok (.invokespecial 1, 3) := by decide +kernel
theorem dJ10_init_4 : decode cJ10_init 4 = .ok (.return_, 1) := by decide +kernel
theorem dJ10_iterator_0 : decode cJ10_iterator 0 = .ok (.aload_n 0, 1) := by decide +kernel
theorem dJ10_iterator_1 : decode cJ10_iterator 1 = .ok (.invokevirtual 65, 3) := by decide +kernel
theorem dJ10_iterator_4 : decode cJ10_iterator 4 = .ok (.areturn, 1) := by decide +kernel
def dkwJ11_init_0 : List UInt8 := [42, 183, 0, 13, 42, 43, 182, 0, 14, 87, 177]
abbrev dktJ11_init_0 : List UInt8 := dkwJ11_init_0 ++ []
theorem dksJ11_init_0 : cJ11_init.data.toList.drop 0 = dktJ11_init_0 := by decide +kernel
theorem dJ11_init_0 : decode cJ11_init 0 = .ok (.aload_n 0, 1) := dk_42 (dk_at dksJ11_init_0 0 rfl rfl)
theorem dJ11_init_1 : decode cJ11_init 1 = .ok (.invokespecial 13, 3) := dk_183 0 13 (dk_at dksJ11_init_0 1 rfl rfl)
theorem dJ11_init_4 : decode cJ11_init 4 = .ok (.aload_n 0, 1) := dk_42 (dk_at dksJ11_init_0 4 rfl rfl)
theorem dJ11_init_5 : decode cJ11_init 5 = .ok (.aload_n 1, 1) := dk_43 (dk_at dksJ11_init_0 5 rfl rfl)
theorem dJ11_init_6 : decode cJ11_init 6 = .ok (.invokevirtual 14, 3) := dk_182 0 14 (dk_at dksJ11_init_0 6 rfl rfl)
theorem dJ11_init_9 : decode cJ11_init 9 = .ok (.pop, 1) := dk_87 (dk_at dksJ11_init_0 9 rfl rfl)
theorem dJ11_init_10 : decode cJ11_init 10 = .ok (.return_, 1) := dk_177 (dk_at dksJ11_init_0 10 rfl rfl)
def dkwJ11_init_2_0 : List UInt8 := [42, 183, 0, 1, 42, 3, 181, 0, 7, 177]
abbrev dktJ11_init_2_0 : List UInt8 := dkwJ11_init_2_0 ++ []
theorem dksJ11_init_2_0 : cJ11_init_2.data.toList.drop 0 = dktJ11_init_2_0 := by decide +kernel
theorem dJ11_init_2_0 : decode cJ11_init_2 0 = .ok (.aload_n 0, 1) := dk_42 (dk_at dksJ11_init_2_0 0 rfl rfl)
theorem dJ11_init_2_1 : decode cJ11_init_2 1 = .ok (.invokespecial 1, 3) := dk_183 0 1 (dk_at dksJ11_init_2_0 1 rfl rfl)
theorem dJ11_init_2_4 : decode cJ11_init_2 4 = .ok (.aload_n 0, 1) := dk_42 (dk_at dksJ11_init_2_0 4 rfl rfl)
theorem dJ11_init_2_5 : decode cJ11_init_2 5 = .ok (.iconst 0, 1) := dk_3 (dk_at dksJ11_init_2_0 5 rfl rfl)
theorem dJ11_init_2_6 : decode cJ11_init_2 6 = .ok (.putfield 7, 3) := dk_181 0 7 (dk_at dksJ11_init_2_0 6 rfl rfl)
theorem dJ11_init_2_9 : decode cJ11_init_2 9 = .ok (.return_, 1) := dk_177 (dk_at dksJ11_init_2_0 9 rfl rfl)
def dkwJ11_addAll_0 : List UInt8 := [42, 42, 180, 0, 7, 43, 182, 0, 73, 172]
abbrev dktJ11_addAll_0 : List UInt8 := dkwJ11_addAll_0 ++ []
theorem dksJ11_addAll_0 : cJ11_addAll.data.toList.drop 0 = dktJ11_addAll_0 := by decide +kernel
theorem dJ11_addAll_0 : decode cJ11_addAll 0 = .ok (.aload_n 0, 1) := dk_42 (dk_at dksJ11_addAll_0 0 rfl rfl)
theorem dJ11_addAll_1 : decode cJ11_addAll 1 = .ok (.aload_n 0, 1) := dk_42 (dk_at dksJ11_addAll_0 1 rfl rfl)
theorem dJ11_addAll_2 : decode cJ11_addAll 2 = .ok (.getfield 7, 3) := dk_180 0 7 (dk_at dksJ11_addAll_0 2 rfl rfl)
theorem dJ11_addAll_5 : decode cJ11_addAll 5 = .ok (.aload_n 1, 1) := dk_43 (dk_at dksJ11_addAll_0 5 rfl rfl)
theorem dJ11_addAll_6 : decode cJ11_addAll 6 = .ok (.invokevirtual 73, 3) := dk_182 0 73 (dk_at dksJ11_addAll_0 6 rfl rfl)
theorem dJ11_addAll_9 : decode cJ11_addAll 9 = .ok (.ireturn, 1) := dk_172 (dk_at dksJ11_addAll_0 9 rfl rfl)
def dkwJ11_addAll_2_7 : List UInt8 := [96, 181, 0, 7, 42, 89, 180, 0, 33, 4, 96, 181, 0, 33, 4, 172]
abbrev dktJ11_addAll_2_7 : List UInt8 := dkwJ11_addAll_2_7 ++ []
def dkwJ11_addAll_2_6 : List UInt8 := [167, 0, 17, 25, 5, 25, 6, 181, 0, 36, 25, 6, 25, 5, 181, 0, 30, 42, 89, 180, 0, 7, 21, 4]
abbrev dktJ11_addAll_2_6 : List UInt8 := dkwJ11_addAll_2_6 ++ dktJ11_addAll_2_7
def dkwJ11_addAll_2_5 : List UInt8 := [181, 0, 36, 25, 12, 58, 5, 132, 9, 1, 167, 255, 196, 25, 6, 199, 0, 12, 42, 25, 5, 181, 0, 27]
abbrev dktJ11_addAll_2_5 : List UInt8 := dkwJ11_addAll_2_5 ++ dktJ11_addAll_2_6
def dkwJ11_addAll_2_4 : List UInt8 := [183, 0, 24, 58, 12, 25, 5, 199, 0, 12, 42, 25, 12, 181, 0, 18, 167, 0, 10, 25, 5, 25, 12]
abbrev dktJ11_addAll_2_4 : List UInt8 := dkwJ11_addAll_2_4 ++ dktJ11_addAll_2_5
def dkwJ11_addAll_2_3 : List UInt8 := [162, 0, 59, 25, 7, 21, 9, 50, 58, 10, 25, 10, 58, 11, 187, 0, 22, 89, 25, 5, 25, 11, 1]
abbrev dktJ11_addAll_2_3 : List UInt8 := dkwJ11_addAll_2_3 ++ dktJ11_addAll_2_4
def dkwJ11_addAll_2_2 : List UInt8 := [58, 6, 25, 6, 180, 0, 30, 58, 5, 45, 58, 7, 25, 7, 190, 54, 8, 3, 54, 9, 21, 9, 21, 8]
abbrev dktJ11_addAll_2_2 : List UInt8 := dkwJ11_addAll_2_2 ++ dktJ11_addAll_2_3
def dkwJ11_addAll_2_1 : List UInt8 := [42, 180, 0, 7, 160, 0, 15, 1, 58, 6, 42, 180, 0, 27, 58, 5, 167, 0, 17, 42, 27, 182, 0, 86]
abbrev dktJ11_addAll_2_1 : List UInt8 := dkwJ11_addAll_2_1 ++ dktJ11_addAll_2_2
def dkwJ11_addAll_2_0 : List UInt8 := [42, 27, 182, 0, 76, 44, 185, 0, 80, 1, 0, 78, 45, 190, 54, 4, 21, 4, 154, 0, 5, 3, 172, 27]
abbrev dktJ11_addAll_2_0 : List UInt8 := dkwJ11_addAll_2_0 ++ dktJ11_addAll_2_1
theorem dksJ11_addAll_2_0 : cJ11_addAll_2.data.toList.drop 0 = dktJ11_addAll_2_0 := by decide +kernel
theorem dksJ11_addAll_2_1 : cJ11_addAll_2.data.toList.drop 24 = dktJ11_addAll_2_1 := dk_seg dksJ11_addAll_2_0 24 rfl rfl
theorem dksJ11_addAll_2_2 : cJ11_addAll_2.data.toList.drop 48 = dktJ11_addAll_2_2 := dk_seg dksJ11_addAll_2_1 24 rfl rfl
theorem dksJ11_addAll_2_3 : cJ11_addAll_2.data.toList.drop 72 = dktJ11_addAll_2_3 := dk_seg dksJ11_addAll_2_2 24 rfl rfl
theorem dksJ11_addAll_2_4 : cJ11_addAll_2.data.toList.drop 95 = dktJ11_addAll_2_4 := dk_seg dksJ11_addAll_2_3 23 rfl rfl
theorem dksJ11_addAll_2_5 : cJ11_addAll_2.data.toList.drop 118 = dktJ11_addAll_2_5 := dk_seg dksJ11_addAll_2_4 23 rfl rfl
theorem dksJ11_addAll_2_6 : cJ11_addAll_2.data.toList.drop 142 = dktJ11_addAll_2_6 := dk_seg dksJ11_addAll_2_5 24 rfl rfl
theorem dksJ11_addAll_2_7 : cJ11_addAll_2.data.toList.drop 166 = dktJ11_addAll_2_7 := dk_seg dksJ11_addAll_2_6 24 rfl rfl
theorem dJ11_addAll_2_0 : decode cJ11_addAll_2 0 = .ok (.aload_n 0, 1) := dk_42 (dk_at dksJ11_addAll_2_0 0 rfl rfl)
theorem dJ11_addAll_2_1 : decode cJ11_addAll_2 1 = .ok (.iload_n 1, 1) := dk_27 (dk_at dksJ11_addAll_2_0 1 rfl rfl)
theorem dJ11_addAll_2_2 : decode cJ11_addAll_2 2 = .ok (.invokevirtual 76, 3) := dk_182 0 76 (dk_at dksJ11_addAll_2_0 2 rfl rfl)
theorem dJ11_addAll_2_5 : decode cJ11_addAll_2 5 = .ok (.aload_n 2, 1) := dk_44 (dk_at dksJ11_addAll_2_0 5 rfl rfl)
theorem dJ11_addAll_2_6 : decode cJ11_addAll_2 6 = .ok (.invokeinterface 80 1, 5) := by decide +kernel
theorem dJ11_addAll_2_11 : decode cJ11_addAll_2 11 = .ok (.astore_n 3, 1) := dk_78 (dk_at dksJ11_addAll_2_0 11 rfl rfl)
theorem dJ11_addAll_2_12 : decode cJ11_addAll_2 12 = .ok (.aload_n 3, 1) := dk_45 (dk_at dksJ11_addAll_2_0 12 rfl rfl)
theorem dJ11_addAll_2_13 : decode cJ11_addAll_2 13 = .ok (.arraylength, 1) := dk_190 (dk_at dksJ11_addAll_2_0 13 rfl rfl)
theorem dJ11_addAll_2_14 : decode cJ11_addAll_2 14 = .ok (.istore 4, 2) := dk_54 4 (dk_at dksJ11_addAll_2_0 14 rfl rfl)
theorem dJ11_addAll_2_16 : decode cJ11_addAll_2 16 = .ok (.iload 4, 2) := dk_21 4 (dk_at dksJ11_addAll_2_0 16 rfl rfl)
theorem dJ11_addAll_2_18 : decode cJ11_addAll_2 18 = .ok (.ifCond .ne 5, 3) := dk_154 0 5 (dk_at dksJ11_addAll_2_0 18 rfl rfl)
theorem dJ11_addAll_2_21 : decode cJ11_addAll_2 21 = .ok (.iconst 0, 1) := dk_3 (dk_at dksJ11_addAll_2_0 21 rfl rfl)
theorem dJ11_addAll_2_22 : decode cJ11_addAll_2 22 = .ok (.ireturn, 1) := dk_172 (dk_at dksJ11_addAll_2_0 22 rfl rfl)
theorem dJ11_addAll_2_23 : decode cJ11_addAll_2 23 = .ok (.iload_n 1, 1) := dk_27 (dk_at dksJ11_addAll_2_0 23 rfl rfl)
theorem dJ11_addAll_2_24 : decode cJ11_addAll_2 24 = .ok (.aload_n 0, 1) := dk_42 (dk_at dksJ11_addAll_2_1 0 rfl rfl)
theorem dJ11_addAll_2_25 : decode cJ11_addAll_2 25 = .ok (.getfield 7, 3) := dk_180 0 7 (dk_at dksJ11_addAll_2_1 1 rfl rfl)
theorem dJ11_addAll_2_28 : decode cJ11_addAll_2 28 = .ok (.if_icmp .ne 15, 3) := dk_160 0 15 (dk_at dksJ11_addAll_2_1 4 rfl rfl)
theorem dJ11_addAll_2_31 : decode cJ11_addAll_2 31 = .ok (.aconst_null, 1) := dk_1 (dk_at dksJ11_addAll_2_1 7 rfl rfl)
theorem dJ11_addAll_2_32 : decode cJ11_addAll_2 32 = .ok (.astore 6, 2) := dk_58 6 (dk_at dksJ11_addAll_2_1 8 rfl rfl)
theorem dJ11_addAll_2_34 : decode cJ11_addAll_2 34 = .ok (.aload_n 0, 1) := dk_42 (dk_at dksJ11_addAll_2_1 10 rfl rfl)
theorem dJ11_addAll_2_35 : decode cJ11_addAll_2 35 = .ok (.getfield 27, 3) := dk_180 0 27 (dk_at dksJ11_addAll_2_1 11 rfl rfl)
theorem dJ11_addAll_2_38 : decode cJ11_addAll_2 38 = .ok (.astore 5, 2) := dk_58 5 (dk_at dksJ11_addAll_2_1 14 rfl rfl)
theorem dJ11_addAll_2_40 : decode cJ11_addAll_2 40 = .ok (.goto 17, 3) := dk_167 0 17 (dk_at dksJ11_addAll_2_1 16 rfl rfl)
theorem dJ11_addAll_2_43 : decode cJ11_addAll_2 43 = .ok (.aload_n 0, 1) := dk_42 (dk_at dksJ11_addAll_2_1 19 rfl rfl)
theorem dJ11_addAll_2_44 : decode cJ11_addAll_2 44 = .ok (.iload_n 1, 1) := dk_27 (dk_at dksJ11_addAll_2_1 20 rfl rfl)
theorem dJ11_addAll_2_45 : decode cJ11_addAll_2 45 = .ok (.invokevirtual 86, 3) := dk_182 0 86 (dk_at dksJ11_addAll_2_1 21 rfl rfl)
theorem dJ11_addAll_2_48 : decode cJ11_addAll_2 48 = .ok (.astore 6, 2) := dk_58 6 (dk_at dksJ11_addAll_2_2 0 rfl rfl)
theorem dJ11_addAll_2_50 : decode cJ11_addAll_2 50 = .ok (.aload 6, 2) := dk_25 6 (dk_at dksJ11_addAll_2_2 2 rfl rfl)
theorem dJ11_addAll_2_52 : decode cJ11_addAll_2 52 = .ok (.getfield 30, 3) := dk_180 0 30 (dk_at dksJ11_addAll_2_2 4 rfl rfl)
theorem dJ11_addAll_2_55 : decode cJ11_addAll_2 55 = .ok (.astore 5, 2) := dk_58 5 (dk_at dksJ11_addAll_2_2 7 rfl rfl)
theorem dJ11_addAll_2_57 : decode cJ11_addAll_2 57 = .ok (.aload_n 3, 1) := dk_45 (dk_at dksJ11_addAll_2_2 9 rfl rfl)
theorem dJ11_addAll_2_58 : decode cJ11_addAll_2 58 = .ok (.astore 7, 2) := dk_58 7 (dk_at dksJ11_addAll_2_2 10 rfl rfl)
theorem dJ11_addAll_2_60 : decode cJ11_addAll_2 60 = .ok (.aload 7, 2) := dk_25 7 (dk_at dksJ11_addAll_2_2 12 rfl rfl)
theorem dJ11_addAll_2_62 : decode cJ11_addAll_2 62 = .ok (.arraylength, 1) := dk_190 (dk_at dksJ11_addAll_2_2 14 rfl rfl)
theorem dJ11_addAll_2_63 : decode cJ11_addAll_2 63 = .ok (.istore 8, 2) := dk_54 8 (dk_at dksJ11_addAll_2_2 15 rfl rfl)
theorem dJ11_addAll_2_65 : decode cJ11_addAll_2 65 = .ok (.iconst 0, 1) := dk_3 (dk_at dksJ11_addAll_2_2 17 rfl rfl)
theorem dJ11_addAll_2_66 : decode cJ11_addAll_2 66 = .ok (.istore 9, 2) := dk_54 9 (dk_at dksJ11_addAll_2_2 18 rfl rfl)
theorem dJ11_addAll_2_68 : decode cJ11_addAll_2 68 = .ok (.iload 9, 2) := dk_21 9 (dk_at dksJ11_addAll_2_2 20 rfl rfl)
theorem dJ11_addAll_2_70 : decode cJ11_addAll_2 70 = .ok (.iload 8, 2) := dk_21 8 (dk_at dksJ11_addAll_2_2 22 rfl rfl)
theorem dJ11_addAll_2_72 : decode cJ11_addAll_2 72 = .ok (.if_icmp .ge 59, 3) := dk_162 0 59 (dk_at dksJ11_addAll_2_3 0 rfl rfl)
theorem dJ11_addAll_2_75 : decode cJ11_addAll_2 75 = .ok (.aload 7, 2) := dk_25 7 (dk_at dksJ11_addAll_2_3 3 rfl rfl)
theorem dJ11_addAll_2_77 : decode cJ11_addAll_2 77 = .ok (.iload 9, 2) := dk_21 9 (dk_at dksJ11_addAll_2_3 5 rfl rfl)
theorem dJ11_addAll_2_79 : decode cJ11_addAll_2 79 = .ok (.aaload, 1) := dk_50 (dk_at dksJ11_addAll_2_3 7 rfl rfl)
theorem dJ11_addAll_2_80 : decode cJ11_addAll_2 80 = .ok (.astore 10, 2) := dk_58 10 (dk_at dksJ11_addAll_2_3 8 rfl rfl)
theorem dJ11_addAll_2_82 : decode cJ11_addAll_2 82 = .ok (.aload 10, 2) := dk_25 10 (dk_at dksJ11_addAll_2_3 10 rfl rfl)
theorem dJ11_addAll_2_84 : decode cJ11_addAll_2 84 = .ok (.astore 11, 2) := dk_58 11 (dk_at dksJ11_addAll_2_3 12 rfl rfl)
theorem dJ11_addAll_2_86 : decode cJ11_addAll_2 86 = .ok (.new 22, 3) := dk_187 0 22 (dk_at dksJ11_addAll_2_3 14 rfl rfl)
theorem dJ11_addAll_2_89 : decode cJ11_addAll_2 89 = .ok (.dup, 1) := dk_89 (dk_at dksJ11_addAll_2_3 17 rfl rfl)
theorem dJ11_addAll_2_90 : decode cJ11_addAll_2 90 = .ok (.aload 5, 2) := dk_25 5 (dk_at dksJ11_addAll_2_3 18 rfl rfl)
theorem dJ11_addAll_2_92 : decode cJ11_addAll_2 92 = .ok (.aload 11, 2) := dk_25 11 (dk_at dksJ11_addAll_2_3 20 rfl rfl)
theorem dJ11_addAll_2_94 : decode cJ11_addAll_2 94 = .ok (.aconst_null, 1) := dk_1 (dk_at dksJ11_addAll_2_3 22 rfl rfl)
theorem dJ11_addAll_2_95 : decode cJ11_addAll_2 95 = .ok (.invokespecial 24, 3) := dk_183 0 24 (dk_at dksJ11_addAll_2_4 0 rfl rfl)
theorem dJ11_addAll_2_98 : decode cJ11_addAll_2 98 = .ok (.astore 12, 2) := dk_58 12 (dk_at dksJ11_addAll_2_4 3 rfl rfl)
theorem dJ11_addAll_2_100 : decode cJ11_addAll_2 100 = .ok (.aload 5, 2) := dk_25 5 (dk_at dksJ11_addAll_2_4 5 rfl rfl)
theorem dJ11_addAll_2_102 : decode cJ11_addAll_2 102 = .ok (.ifnonnull 12, 3) := dk_199 0 12 (dk_at dksJ11_addAll_2_4 7 rfl rfl)
theorem dJ11_addAll_2_105 : decode cJ11_addAll_2 105 = .ok (.aload_n 0, 1) := dk_42 (dk_at dksJ11_addAll_2_4 10 rfl rfl)
theorem dJ11_addAll_2_106 : decode cJ11_addAll_2 106 = .ok (.aload 12, 2) := dk_25 12 (dk_at dksJ11_addAll_2_4 11 rfl rfl)
theorem dJ11_addAll_2_108 : decode cJ11_addAll_2 108 = .ok (.putfield 18, 3) := dk_181 0 18 (dk_at dksJ11_addAll_2_4 13 rfl rfl)
theorem dJ11_addAll_2_111 : decode cJ11_addAll_2 111 = .ok (.goto 10, 3) := dk_167 0 10 (dk_at dksJ11_addAll_2_4 16 rfl rfl)
theorem dJ11_addAll_2_114 : decode cJ11_addAll_2 114 = .ok (.aload 5, 2) := dk_25 5 (dk_at dksJ11_addAll_2_4 19 rfl rfl)
theorem dJ11_addAll_2_116 : decode cJ11_addAll_2 116 = .ok (.aload 12, 2) := dk_25 12 (dk_at dksJ11_addAll_2_4 21 rfl rfl)
theorem dJ11_addAll_2_118 : decode cJ11_addAll_2 118 = .ok (.putfield 36, 3) := dk_181 0 36 (dk_at dksJ11_addAll_2_5 0 rfl rfl)
theorem dJ11_addAll_2_121 : decode cJ11_addAll_2 121 = .ok (.aload 12, 2) := dk_25 12 (dk_at dksJ11_addAll_2_5 3 rfl rfl)
theorem dJ11_addAll_2_123 : decode cJ11_addAll_2 123 = .ok (.astore 5, 2) := dk_58 5 (dk_at dksJ11_addAll_2_5 5 rfl rfl)
theorem dJ11_addAll_2_125 : decode cJ11_addAll_2 125 = .ok (.iinc 9 1, 3) := dk_132 9 1 (dk_at dksJ11_addAll_2_5 7 rfl rfl)
theorem dJ11_addAll_2_128 : decode cJ11_addAll_2 128 = .ok (.goto (-60), 3) := dk_167 255 196 (dk_at dksJ11_addAll_2_5 10 rfl rfl)
theorem dJ11_addAll_2_131 : decode cJ11_addAll_2 131 = .ok (.aload 6, 2) := dk_25 6 (dk_at dksJ11_addAll_2_5 13 rfl rfl)
theorem dJ11_addAll_2_133 : decode cJ11_addAll_2 133 = .ok (.ifnonnull 12, 3) := dk_199 0 12 (dk_at dksJ11_addAll_2_5 15 rfl rfl)
theorem dJ11_addAll_2_136 : decode cJ11_addAll_2 136 = .ok (.aload_n 0, 1) := dk_42 (dk_at dksJ11_addAll_2_5 18 rfl rfl)
theorem dJ11_addAll_2_137 : decode cJ11_addAll_2 137 = .ok (.aload 5, 2) := dk_25 5 (dk_at dksJ11_addAll_2_5 19 rfl rfl)
theorem dJ11_addAll_2_139 : decode cJ11_addAll_2 139 = .ok (.putfield 27, 3) := dk_181 0 27 (dk_at dksJ11_addAll_2_5 21 rfl rfl)
theorem dJ11_addAll_2_142 : decode cJ11_addAll_2 142 = .ok (.goto 17, 3) := dk_167 0 17 (dk_at dksJ11_addAll_2_6 0 rfl rfl)
theorem dJ11_addAll_2_145 : decode cJ11_addAll_2 145 = .ok (.aload 5, 2) := dk_25 5 (dk_at dksJ11_addAll_2_6 3 rfl rfl)
theorem dJ11_addAll_2_147 : decode cJ11_addAll_2 147 = .ok (.aload 6, 2) := dk_25 6 (dk_at dksJ11_addAll_2_6 5 rfl rfl)
theorem dJ11_addAll_2_149 : decode cJ11_addAll_2 149 = .ok (.putfield 36, 3) := dk_181 0 36 (dk_at dksJ11_addAll_2_6 7 rfl rfl)
theorem dJ11_addAll_2_152 : decode cJ11_addAll_2 152 = .ok (.aload 6, 2) := dk_25 6 (dk_at dksJ11_addAll_2_6 10 rfl rfl)
theorem dJ11_addAll_2_154 : decode cJ11_addAll_2 154 = .ok (.aload 5, 2) := dk_25 5 (dk_at dksJ11_addAll_2_6 12 rfl rfl)
theorem dJ11_addAll_2_156 : decode cJ11_addAll_2 156 = .ok (.putfield 30, 3) := dk_181 0 30 (dk_at dksJ11_addAll_2_6 14 rfl rfl)
theorem dJ11_addAll_2_159 : decode cJ11_addAll_2 159 = .ok (.aload_n 0, 1) := dk_42 (dk_at dksJ11_addAll_2_6 17 rfl rfl)
theorem dJ11_addAll_2_160 : decode cJ11_addAll_2 160 = .ok (.dup, 1) := dk_89 (dk_at dksJ11_addAll_2_6 18 rfl rfl)
theorem dJ11_addAll_2_161 : decode cJ11_addAll_2 161 = .ok (.getfield 7, 3) := dk_180 0 7 (dk_at dksJ11_addAll_2_6 19 rfl rfl)
theorem dJ11_addAll_2_164 : decode cJ11_addAll_2 164 = .ok (.iload 4, 2) := dk_21 4 (dk_at dksJ11_addAll_2_6 22 rfl rfl)
theorem dJ11_addAll_2_166 : decode cJ11_addAll_2 166 = .ok (.iadd, 1) := dk_96 (dk_at dksJ11_addAll_2_7 0 rfl rfl)
theorem dJ11_addAll_2_167 : decode cJ11_addAll_2 167 = .ok (.putfield 7, 3) := dk_181 0 7 (dk_at dksJ11_addAll_2_7 1 rfl rfl)
theorem dJ11_addAll_2_170 : decode cJ11_addAll_2 170 = .ok (.aload_n 0, 1) := dk_42 (dk_at dksJ11_addAll_2_7 4 rfl rfl)
theorem dJ11_addAll_2_171 : decode cJ11_addAll_2 171 = .ok (.dup, 1) := dk_89 (dk_at dksJ11_addAll_2_7 5 rfl rfl)
theorem dJ11_addAll_2_172 : decode cJ11_addAll_2 172 = .ok (.getfield 33, 3) := dk_180 0 33 (dk_at dksJ11_addAll_2_7 6 rfl rfl)
theorem dJ11_addAll_2_175 : decode cJ11_addAll_2 175 = .ok (.iconst 1, 1) := dk_4 (dk_at dksJ11_addAll_2_7 9 rfl rfl)
theorem dJ11_addAll_2_176 : decode cJ11_addAll_2 176 = .ok (.iadd, 1) := dk_96 (dk_at dksJ11_addAll_2_7 10 rfl rfl)
theorem dJ11_addAll_2_177 : decode cJ11_addAll_2 177 = .ok (.putfield 33, 3) := dk_181 0 33 (dk_at dksJ11_addAll_2_7 11 rfl rfl)
theorem dJ11_addAll_2_180 : decode cJ11_addAll_2 180 = .ok (.iconst 1, 1) := dk_4 (dk_at dksJ11_addAll_2_7 14 rfl rfl)
theorem dJ11_addAll_2_181 : decode cJ11_addAll_2 181 = .ok (.ireturn, 1) := dk_172 (dk_at dksJ11_addAll_2_7 15 rfl rfl)
def dkwJ11_checkPositionIndex_0 : List UInt8 := [42, 27, 182, 0, 128, 154, 0, 16, 187, 0, 119, 89, 42, 27, 182, 0, 121, 183, 0, 125, 191, 177]
abbrev dktJ11_checkPositionIndex_0 : List UInt8 := dkwJ11_checkPositionIndex_0 ++ []
theorem dksJ11_checkPositionIndex_0 : cJ11_checkPositionIndex.data.toList.drop 0 = dktJ11_checkPositionIndex_0 := by decide +kernel
theorem dJ11_checkPositionIndex_0 : decode cJ11_checkPositionIndex 0 = .ok (.aload_n 0, 1) := dk_42 (dk_at dksJ11_checkPositionIndex_0 0 rfl rfl)
theorem dJ11_checkPositionIndex_1 : decode cJ11_checkPositionIndex 1 = .ok (.iload_n 1, 1) := dk_27 (dk_at dksJ11_checkPositionIndex_0 1 rfl rfl)
theorem dJ11_checkPositionIndex_2 : decode cJ11_checkPositionIndex 2 = .ok (.invokevirtual 128, 3) := dk_182 0 128 (dk_at dksJ11_checkPositionIndex_0 2 rfl rfl)
theorem dJ11_checkPositionIndex_5 : decode cJ11_checkPositionIndex 5 = .ok (.ifCond .ne 16, 3) := dk_154 0 16 (dk_at dksJ11_checkPositionIndex_0 5 rfl rfl)
theorem dJ11_checkPositionIndex_8 : decode cJ11_checkPositionIndex 8 = .ok (.new 119, 3) := dk_187 0 119 (dk_at dksJ11_checkPositionIndex_0 8 rfl rfl)
theorem dJ11_checkPositionIndex_11 : decode cJ11_checkPositionIndex 11 = .ok (.dup, 1) := dk_89 (dk_at dksJ11_checkPositionIndex_0 11 rfl rfl)
theorem dJ11_checkPositionIndex_12 : decode cJ11_checkPositionIndex 12 = .ok (.aload_n 0, 1) := dk_42 (dk_at dksJ11_checkPositionIndex_0 12 rfl rfl)
theorem dJ11_checkPositionIndex_13 : decode cJ11_checkPositionIndex 13 = .ok (.iload_n 1, 1) := dk_27 (dk_at dksJ11_checkPositionIndex_0 13 rfl rfl)
theorem dJ11_checkPositionIndex_14 : decode cJ11_checkPositionIndex 14 = .ok (.invokevirtual 121, 3) := dk_182 0 121 (dk_at dksJ11_checkPositionIndex_0 14 rfl rfl)
theorem dJ11_checkPositionIndex_17 : decode cJ11_checkPositionIndex 17 = .ok (.invokespecial 125, 3) := dk_183 0 125 (dk_at dksJ11_checkPositionIndex_0 17 rfl rfl)
theorem dJ11_checkPositionIndex_20 : decode cJ11_checkPositionIndex 20 = .ok (.athrow, 1) := dk_191 (dk_at dksJ11_checkPositionIndex_0 20 rfl rfl)
theorem dJ11_checkPositionIndex_21 : decode cJ11_checkPositionIndex 21 = .ok (.return_, 1) := dk_177 (dk_at dksJ11_checkPositionIndex_0 21 rfl rfl)
def dkwJ11_isPositionIndex_0 : List UInt8 := [27, 155, 0, 15, 27, 42, 180, 0, 7, 163, 0, 7, 4, 167, 0, 4, 3, 172]
abbrev dktJ11_isPositionIndex_0 : List UInt8 := dkwJ11_isPositionIndex_0 ++ []
theorem dksJ11_isPositionIndex_0 : cJ11_isPositionIndex.data.toList.drop 0 = dktJ11_isPositionIndex_0 := by decide +kernel
theorem dJ11_isPositionIndex_0 : decode cJ11_isPositionIndex 0 = .ok (.iload_n 1, 1) := dk_27 (dk_at dksJ11_isPositionIndex_0 0 rfl rfl)
theorem dJ11_isPositionIndex_1 : decode cJ11_isPositionIndex 1 = .ok (.ifCond .lt 15, 3) := dk_155 0 15 (dk_at dksJ11_isPositionIndex_0 1 rfl rfl)
theorem dJ11_isPositionIndex_4 : decode cJ11_isPositionIndex 4 = .ok (.iload_n 1, 1) := dk_27 (dk_at dksJ11_isPositionIndex_0 4 rfl rfl)
theorem dJ11_isPositionIndex_5 : decode cJ11_isPositionIndex 5 = .ok (.aload_n 0, 1) := dk_42 (dk_at dksJ11_isPositionIndex_0 5 rfl rfl)
theorem dJ11_isPositionIndex_6 : decode cJ11_isPositionIndex 6 = .ok (.getfield 7, 3) := dk_180 0 7 (dk_at dksJ11_isPositionIndex_0 6 rfl rfl)
theorem dJ11_isPositionIndex_9 : decode cJ11_isPositionIndex 9 = .ok (.if_icmp .gt 7, 3) := dk_163 0 7 (dk_at dksJ11_isPositionIndex_0 9 rfl rfl)
theorem dJ11_isPositionIndex_12 : decode cJ11_isPositionIndex 12 = .ok (.iconst 1, 1) := dk_4 (dk_at dksJ11_isPositionIndex_0 12 rfl rfl)
theorem dJ11_isPositionIndex_13 : decode cJ11_isPositionIndex 13 = .ok (.goto 4, 3) := dk_167 0 4 (dk_at dksJ11_isPositionIndex_0 13 rfl rfl)
theorem dJ11_isPositionIndex_16 : decode cJ11_isPositionIndex 16 = .ok (.iconst 0, 1) := dk_3 (dk_at dksJ11_isPositionIndex_0 16 rfl rfl)
theorem dJ11_isPositionIndex_17 : decode cJ11_isPositionIndex 17 = .ok (.ireturn, 1) := dk_172 (dk_at dksJ11_isPositionIndex_0 17 rfl rfl)
def dkwJ11_toArray_1 : List UInt8 := [45, 180, 0, 39, 83, 45, 180, 0, 36, 78, 167, 255, 237, 43, 176]
abbrev dktJ11_toArray_1 : List UInt8 := dkwJ11_toArray_1 ++ []
def dkwJ11_toArray_0 : List UInt8 := [42, 180, 0, 7, 189, 0, 68, 76, 3, 61, 42, 180, 0, 18, 78, 45, 198, 0, 21, 43, 28, 132, 2, 1]
abbrev dktJ11_toArray_0 : List UInt8 := dkwJ11_toArray_0 ++ dktJ11_toArray_1
theorem dksJ11_toArray_0 : cJ11_toArray.data.toList.drop 0 = dktJ11_toArray_0 := by decide +kernel
theorem dksJ11_toArray_1 : cJ11_toArray.data.toList.drop 24 = dktJ11_toArray_1 := dk_seg dksJ11_toArray_0 24 rfl rfl
theorem dJ11_toArray_0 : decode cJ11_toArray 0 = .ok (.aload_n 0, 1) := dk_42 (dk_at dksJ11_toArray_0 0 rfl rfl)
theorem dJ11_toArray_1 : decode cJ11_toArray 1 = .ok (.getfield 7, 3) := dk_180 0 7 (dk_at dksJ11_toArray_0 1 rfl rfl)
theorem dJ11_toArray_4 : decode cJ11_toArray 4 = .ok (.anewarray 68, 3) := dk_189 0 68 (dk_at dksJ11_toArray_0 4 rfl rfl)
theorem dJ11_toArray_7 : decode cJ11_toArray 7 = .ok (.astore_n 1, 1) := dk_76 (dk_at dksJ11_toArray_0 7 rfl rfl)
theorem dJ11_toArray_8 : decode cJ11_toArray 8 = .ok (.iconst 0, 1) := dk_3 (dk_at dksJ11_toArray_0 8 rfl rfl)
theorem dJ11_toArray_9 : decode cJ11_toArray 9 = .ok (.istore_n 2, 1) := dk_61 (dk_at dksJ11_toArray_0 9 rfl rfl)
theorem dJ11_toArray_10 : decode cJ11_toArray 10 = .ok (.aload_n 0, 1) := dk_42 (dk_at dksJ11_toArray_0 10 rfl rfl)
theorem dJ11_toArray_11 : decode cJ11_toArray 11 = .ok (.getfield 18, 3) := dk_180 0 18 (dk_at dksJ11_toArray_0 11 rfl rfl)
theorem dJ11_toArray_14 : decode cJ11_toArray 14 = .ok (.astore_n 3, 1) := dk_78 (dk_at dksJ11_toArray_0 14 rfl rfl)
theorem dJ11_toArray_15 : decode cJ11_toArray 15 = .ok (.aload_n 3, 1) := dk_45 (dk_at dksJ11_toArray_0 15 rfl rfl)
theorem dJ11_toArray_16 : decode cJ11_toArray 16 = .ok (.ifnull 21, 3) := dk_198 0 21 (dk_at dksJ11_toArray_0 16 rfl rfl)
theorem dJ11_toArray_19 : decode cJ11_toArray 19 = .ok (.aload_n 1, 1) := dk_43 (dk_at dksJ11_toArray_0 19 rfl rfl)
theorem dJ11_toArray_20 : decode cJ11_toArray 20 = .ok (.iload_n 2, 1) := dk_28 (dk_at dksJ11_toArray_0 20 rfl rfl)
theorem dJ11_toArray_21 : decode cJ11_toArray 21 = .ok (.iinc 2 1, 3) := dk_132 2 1 (dk_at dksJ11_toArray_0 21 rfl rfl)
theorem dJ11_toArray_24 : decode cJ11_toArray 24 = .ok (.aload_n 3, 1) := dk_45 (dk_at dksJ11_toArray_1 0 rfl rfl)
theorem dJ11_toArray_25 : decode cJ11_toArray 25 = .ok (.getfield 39, 3) := dk_180 0 39 (dk_at dksJ11_toArray_1 1 rfl rfl)
theorem dJ11_toArray_28 : decode cJ11_toArray 28 = .ok (.aastore, 1) := dk_83 (dk_at dksJ11_toArray_1 4 rfl rfl)
theorem dJ11_toArray_29 : decode cJ11_toArray 29 = .ok (.aload_n 3, 1) := dk_45 (dk_at dksJ11_toArray_1 5 rfl rfl)
theorem dJ11_toArray_30 : decode cJ11_toArray 30 = .ok (.getfield 36, 3) := dk_180 0 36 (dk_at dksJ11_toArray_1 6 rfl rfl)
theorem dJ11_toArray_33 : decode cJ11_toArray 33 = .ok (.astore_n 3, 1) := dk_78 (dk_at dksJ11_toArray_1 9 rfl rfl)
theorem dJ11_toArray_34 : decode cJ11_toArray 34 = .ok (.goto (-19), 3) := dk_167 255 237 (dk_at dksJ11_toArray_1 10 rfl rfl)
theorem dJ11_toArray_37 : decode cJ11_toArray 37 = .ok (.aload_n 1, 1) := dk_43 (dk_at dksJ11_toArray_1 13 rfl rfl)
theorem dJ11_toArray_38 : decode cJ11_toArray 38 = .ok (.areturn, 1) := dk_176 (dk_at dksJ11_toArray_1 14 rfl rfl)
def dkwJ11_node_2 : List UInt8 := [29, 27, 164, 0, 14, 44, 180, 0, 30, 77, 132, 3, 255, 167, 255, 243, 44, 176]
abbrev dktJ11_node_2 : List UInt8 := dkwJ11_node_2 ++ []
def dkwJ11_node_1 : List UInt8 := [180, 0, 36, 77, 132, 3, 1, 167, 255, 243, 44, 176, 42, 180, 0, 27, 77, 42, 180, 0, 7, 4, 100, 62]
abbrev dktJ11_node_1 : List UInt8 := dkwJ11_node_1 ++ dktJ11_node_2
def dkwJ11_node_0 : List UInt8 := [27, 42, 180, 0, 7, 4, 122, 162, 0, 28, 42, 180, 0, 18, 77, 3, 62, 29, 27, 162, 0, 14, 44]
abbrev dktJ11_node_0 : List UInt8 := dkwJ11_node_0 ++ dktJ11_node_1
theorem dksJ11_node_0 : cJ11_node.data.toList.drop 0 = dktJ11_node_0 := by decide +kernel
theorem dksJ11_node_1 : cJ11_node.data.toList.drop 23 = dktJ11_node_1 := dk_seg dksJ11_node_0 23 rfl rfl
theorem dksJ11_node_2 : cJ11_node.data.toList.drop 47 = dktJ11_node_2 := dk_seg dksJ11_node_1 24 rfl rfl
theorem dJ11_node_0 : decode cJ11_node 0 = .ok (.iload_n 1, 1) := dk_27 (dk_at dksJ11_node_0 0 rfl rfl)
theorem dJ11_node_1 : decode cJ11_node 1 = .ok (.aload_n 0, 1) := dk_42 (dk_at dksJ11_node_0 1 rfl rfl)
theorem dJ11_node_2 : decode cJ11_node 2 = .ok (.getfield 7, 3) := dk_180 0 7 (dk_at dksJ11_node_0 2 rfl rfl)
theorem dJ11_node_5 : decode cJ11_node 5 = .ok (.iconst 1, 1) := dk_4 (dk_at dksJ11_node_0 5 rfl rfl)
theorem dJ11_node_6 : decode cJ11_node 6 = .ok (.ishr, 1) := dk_122 (dk_at dksJ11_node_0 6 rfl rfl)
theorem dJ11_node_7 : decode cJ11_node 7 = .ok (.if_icmp .ge 28, 3) := dk_162 0 28 (dk_at dksJ11_node_0 7 rfl rfl)
theorem dJ11_node_10 : decode cJ11_node 10 = .ok (.aload_n 0, 1) := dk_42 (dk_at dksJ11_node_0 10 rfl rfl)
theorem dJ11_node_11 : decode cJ11_node 11 = .ok (.getfield 18, 3) := dk_180 0 18 (dk_at dksJ11_node_0 11 rfl rfl)
theorem dJ11_node_14 : decode cJ11_node 14 = .ok (.astore_n 2, 1) := dk_77 (dk_at dksJ11_node_0 14 rfl rfl)
theorem dJ11_node_15 : decode cJ11_node 15 = .ok (.iconst 0, 1) := dk_3 (dk_at dksJ11_node_0 15 rfl rfl)
theorem dJ11_node_16 : decode cJ11_node 16 = .ok (.istore_n 3, 1) := dk_62 (dk_at dksJ11_node_0 16 rfl rfl)
theorem dJ11_node_17 : decode cJ11_node 17 = .ok (.iload_n 3, 1) := dk_29 (dk_at dksJ11_node_0 17 rfl rfl)
theorem dJ11_node_18 : decode cJ11_node 18 = .ok (.iload_n 1, 1) := dk_27 (dk_at dksJ11_node_0 18 rfl rfl)
theorem dJ11_node_19 : decode cJ11_node 19 = .ok (.if_icmp .ge 14, 3) := dk_162 0 14 (dk_at dksJ11_node_0 19 rfl rfl)
theorem dJ11_node_22 : decode cJ11_node 22 = .ok (.aload_n 2, 1) := dk_44 (dk_at dksJ11_node_0 22 rfl rfl)
theorem dJ11_node_23 : decode cJ11_node 23 = .ok (.getfield 36, 3) := dk_180 0 36 (dk_at dksJ11_node_1 0 rfl rfl)
theorem dJ11_node_26 : decode cJ11_node 26 = .ok (.astore_n 2, 1) := dk_77 (dk_at dksJ11_node_1 3 rfl rfl)
theorem dJ11_node_27 : decode cJ11_node 27 = .ok (.iinc 3 1, 3) := dk_132 3 1 (dk_at dksJ11_node_1 4 rfl rfl)
theorem dJ11_node_30 : decode cJ11_node 30 = .ok (.goto (-13), 3) := dk_167 255 243 (dk_at dksJ11_node_1 7 rfl rfl)
theorem dJ11_node_33 : decode cJ11_node 33 = .ok (.aload_n 2, 1) := dk_44 (dk_at dksJ11_node_1 10 rfl rfl)
theorem dJ11_node_34 : decode cJ11_node 34 = .ok (.areturn, 1) := dk_176 (dk_at dksJ11_node_1 11 rfl rfl)
theorem dJ11_node_35 : decode cJ11_node 35 = .ok (.aload_n 0, 1) := dk_42 (dk_at dksJ11_node_1 12 rfl rfl)
theorem dJ11_node_36 : decode cJ11_node 36 = .ok (.getfield 27, 3) := dk_180 0 27 (dk_at dksJ11_node_1 13 rfl rfl)
theorem dJ11_node_39 : decode cJ11_node 39 = .ok (.astore_n 2, 1) := dk_77 (dk_at dksJ11_node_1 16 rfl rfl)
theorem dJ11_node_40 : decode cJ11_node 40 = .ok (.aload_n 0, 1) := dk_42 (dk_at dksJ11_node_1 17 rfl rfl)
theorem dJ11_node_41 : decode cJ11_node 41 = .ok (.getfield 7, 3) := dk_180 0 7 (dk_at dksJ11_node_1 18 rfl rfl)
theorem dJ11_node_44 : decode cJ11_node 44 = .ok (.iconst 1, 1) := dk_4 (dk_at dksJ11_node_1 21 rfl rfl)
theorem dJ11_node_45 : decode cJ11_node 45 = .ok (.isub, 1) := dk_100 (dk_at dksJ11_node_1 22 rfl rfl)
theorem dJ11_node_46 : decode cJ11_node 46 = .ok (.istore_n 3, 1) := dk_62 (dk_at dksJ11_node_1 23 rfl rfl)
theorem dJ11_node_47 : decode cJ11_node 47 = .ok (.iload_n 3, 1) := dk_29 (dk_at dksJ11_node_2 0 rfl rfl)
theorem dJ11_node_48 : decode cJ11_node 48 = .ok (.iload_n 1, 1) := dk_27 (dk_at dksJ11_node_2 1 rfl rfl)
theorem dJ11_node_49 : decode cJ11_node 49 = .ok (.if_icmp .le 14, 3) := dk_164 0 14 (dk_at dksJ11_node_2 2 rfl rfl)
theorem dJ11_node_52 : decode cJ11_node 52 = .ok (.aload_n 2, 1) := dk_44 (dk_at dksJ11_node_2 5 rfl rfl)
theorem dJ11_node_53 : decode cJ11_node 53 = .ok (.getfield 30, 3) := dk_180 0 30 (dk_at dksJ11_node_2 6 rfl rfl)
theorem dJ11_node_56 : decode cJ11_node 56 = .ok (.astore_n 2, 1) := dk_77 (dk_at dksJ11_node_2 9 rfl rfl)
theorem dJ11_node_57 : decode cJ11_node 57 = .ok (.iinc 3 (-1), 3) := dk_132 3 255 (dk_at dksJ11_node_2 10 rfl rfl)
theorem dJ11_node_60 : decode cJ11_node 60 = .ok (.goto (-13), 3) := dk_167 255 243 (dk_at dksJ11_node_2 13 rfl rfl)
theorem dJ11_node_63 : decode cJ11_node 63 = .ok (.aload_n 2, 1) := dk_44 (dk_at dksJ11_node_2 16 rfl rfl)
theorem dJ11_node_64 : decode cJ11_node 64 = .ok (.areturn, 1) := dk_176 (dk_at dksJ11_node_2 17 rfl rfl)
def dkwJ11_remove_0 : List UInt8 := [42, 27, 182, 0, 90, 42, 42, 27, 182, 0, 86, 182, 0, 64, 176]
abbrev dktJ11_remove_0 : List UInt8 := dkwJ11_remove_0 ++ []
theorem dksJ11_remove_0 : cJ11_remove.data.toList.drop 0 = dktJ11_remove_0 := by decide +kernel
theorem dJ11_remove_0 : decode cJ11_remove 0 = .ok (.aload_n 0, 1) := dk_42 (dk_at dksJ11_remove_0 0 rfl rfl)
theorem dJ11_remove_1 : decode cJ11_remove 1 = .ok (.iload_n 1, 1) := dk_27 (dk_at dksJ11_remove_0 1 rfl rfl)
theorem dJ11_remove_2 : decode cJ11_remove 2 = .ok (.invokevirtual 90, 3) := dk_182 0 90 (dk_at dksJ11_remove_0 2 rfl rfl)
theorem dJ11_remove_5 : decode cJ11_remove 5 = .ok (.aload_n 0, 1) := dk_42 (dk_at dksJ11_remove_0 5 rfl rfl)
theorem dJ11_remove_6 : decode cJ11_remove 6 = .ok (.aload_n 0, 1) := dk_42 (dk_at dksJ11_remove_0 6 rfl rfl)
theorem dJ11_remove_7 : decode cJ11_remove 7 = .ok (.iload_n 1, 1) := dk_27 (dk_at dksJ11_remove_0 7 rfl rfl)
theorem dJ11_remove_8 : decode cJ11_remove 8 = .ok (.invokevirtual 86, 3) := dk_182 0 86 (dk_at dksJ11_remove_0 8 rfl rfl)
theorem dJ11_remove_11 : decode cJ11_remove 11 = .ok (.invokevirtual 64, 3) := dk_182 0 64 (dk_at dksJ11_remove_0 11 rfl rfl)
theorem dJ11_remove_14 : decode cJ11_remove 14 = .ok (.areturn, 1) := dk_176 (dk_at dksJ11_remove_0 14 rfl rfl)
def dkwJ11_checkElementIndex_0 : List UInt8 := [42, 27, 182, 0, 115, 154, 0, 16, 187, 0, 119, 89, 42, 27, 182, 0, 121, 183, 0, 125, 191, 177]
abbrev dktJ11_checkElementIndex_0 : List UInt8 := dkwJ11_checkElementIndex_0 ++ []
theorem dksJ11_checkElementIndex_0 : cJ11_checkElementIndex.data.toList.drop 0 = dktJ11_checkElementIndex_0 := by decide +kernel
theorem dJ11_checkElementIndex_0 : decode cJ11_checkElementIndex 0 = .ok (.aload_n 0, 1) := dk_42 (dk_at dksJ11_checkElementIndex_0 0 rfl rfl)
theorem dJ11_checkElementIndex_1 : decode cJ11_checkElementIndex 1 = .ok (.iload_n 1, 1) := dk_27 (dk_at dksJ11_checkElementIndex_0 1 rfl rfl)
theorem dJ11_checkElementIndex_2 : decode cJ11_checkElementIndex 2 = .ok (.invokevirtual 115, 3) := dk_182 0 115 (dk_at dksJ11_checkElementIndex_0 2 rfl rfl)
theorem dJ11_checkElementIndex_5 : decode cJ11_checkElementIndex 5 = .ok (.ifCond .ne 16, 3) := dk_154 0 16 (dk_at dksJ11_checkElementIndex_0 5 rfl rfl)
theorem dJ11_checkElementIndex_8 : decode cJ11_checkElementIndex 8 = .ok (.new 119, 3) := dk_187 0 119 (dk_at dksJ11_checkElementIndex_0 8 rfl rfl)
theorem dJ11_checkElementIndex_11 : decode cJ11_checkElementIndex 11 = .ok (.dup, 1) := dk_89 (dk_at dksJ11_checkElementIndex_0 11 rfl rfl)
theorem dJ11_checkElementIndex_12 : decode cJ11_checkElementIndex 12 = .ok (.aload_n 0, 1) := dk_42 (dk_at dksJ11_checkElementIndex_0 12 rfl rfl)
theorem dJ11_checkElementIndex_13 : decode cJ11_checkElementIndex 13 = .ok (.iload_n 1, 1) := dk_27 (dk_at dksJ11_checkElementIndex_0 13 rfl rfl)
theorem dJ11_checkElementIndex_14 : decode cJ11_checkElementIndex 14 = .ok (.invokevirtual 121, 3) := dk_182 0 121 (dk_at dksJ11_checkElementIndex_0 14 rfl rfl)
theorem dJ11_checkElementIndex_17 : decode cJ11_checkElementIndex 17 = .ok (.invokespecial 125, 3) := dk_183 0 125 (dk_at dksJ11_checkElementIndex_0 17 rfl rfl)
theorem dJ11_checkElementIndex_20 : decode cJ11_checkElementIndex 20 = .ok (.athrow, 1) := dk_191 (dk_at dksJ11_checkElementIndex_0 20 rfl rfl)
theorem dJ11_checkElementIndex_21 : decode cJ11_checkElementIndex 21 = .ok (.return_, 1) := dk_177 (dk_at dksJ11_checkElementIndex_0 21 rfl rfl)
def dkwJ11_isElementIndex_0 : List UInt8 := [27, 155, 0, 15, 27, 42, 180, 0, 7, 162, 0, 7, 4, 167, 0, 4, 3, 172]
abbrev dktJ11_isElementIndex_0 : List UInt8 := dkwJ11_isElementIndex_0 ++ []
theorem dksJ11_isElementIndex_0 : cJ11_isElementIndex.data.toList.drop 0 = dktJ11_isElementIndex_0 := by decide +kernel
theorem dJ11_isElementIndex_0 : decode cJ11_isElementIndex 0 = .ok (.iload_n 1, 1) := dk_27 (dk_at dksJ11_isElementIndex_0 0 rfl rfl)
theorem dJ11_isElementIndex_1 : decode cJ11_isElementIndex 1 = .ok (.ifCond .lt 15, 3) := dk_155 0 15 (dk_at dksJ11_isElementIndex_0 1 rfl rfl)
theorem dJ11_isElementIndex_4 : decode cJ11_isElementIndex 4 = .ok (.iload_n 1, 1) := dk_27 (dk_at dksJ11_isElementIndex_0 4 rfl rfl)
theorem dJ11_isElementIndex_5 : decode cJ11_isElementIndex 5 = .ok (.aload_n 0, 1) := dk_42 (dk_at dksJ11_isElementIndex_0 5 rfl rfl)
theorem dJ11_isElementIndex_6 : decode cJ11_isElementIndex 6 = .ok (.getfield 7, 3) := dk_180 0 7 (dk_at dksJ11_isElementIndex_0 6 rfl rfl)
theorem dJ11_isElementIndex_9 : decode cJ11_isElementIndex 9 = .ok (.if_icmp .ge 7, 3) := dk_162 0 7 (dk_at dksJ11_isElementIndex_0 9 rfl rfl)
theorem dJ11_isElementIndex_12 : decode cJ11_isElementIndex 12 = .ok (.iconst 1, 1) := dk_4 (dk_at dksJ11_isElementIndex_0 12 rfl rfl)
theorem dJ11_isElementIndex_13 : decode cJ11_isElementIndex 13 = .ok (.goto 4, 3) := dk_167 0 4 (dk_at dksJ11_isElementIndex_0 13 rfl rfl)
theorem dJ11_isElementIndex_16 : decode cJ11_isElementIndex 16 = .ok (.iconst 0, 1) := dk_3 (dk_at dksJ11_isElementIndex_0 16 rfl rfl)
theorem dJ11_isElementIndex_17 : decode cJ11_isElementIndex 17 = .ok (.ireturn, 1) := dk_172 (dk_at dksJ11_isElementIndex_0 17 rfl rfl)
def dkwJ11_unlink_3 : List UInt8 := [180, 0, 7, 4, 100, 181, 0, 7, 42, 89, 180, 0, 33, 4, 96, 181, 0, 33, 44, 176]
abbrev dktJ11_unlink_3 : List UInt8 := dkwJ11_unlink_3 ++ []
def dkwJ11_unlink_2 : List UInt8 := [181, 0, 27, 167, 0, 14, 45, 25, 4, 181, 0, 30, 43, 1, 181, 0, 36, 43, 1, 181, 0, 39, 42, 89]
abbrev dktJ11_unlink_2 : List UInt8 := dkwJ11_unlink_2 ++ dktJ11_unlink_3
def dkwJ11_unlink_1 : List UInt8 := [181, 0, 18, 167, 0, 14, 25, 4, 45, 181, 0, 36, 43, 1, 181, 0, 30, 45, 199, 0, 12, 42, 25, 4]
abbrev dktJ11_unlink_1 : List UInt8 := dkwJ11_unlink_1 ++ dktJ11_unlink_2
def dkwJ11_unlink_0 : List UInt8 := [43, 180, 0, 39, 77, 43, 180, 0, 36, 78, 43, 180, 0, 30, 58, 4, 25, 4, 199, 0, 11, 42, 45]
abbrev dktJ11_unlink_0 : List UInt8 := dkwJ11_unlink_0 ++ dktJ11_unlink_1
theorem dksJ11_unlink_0 : cJ11_unlink.data.toList.drop 0 = dktJ11_unlink_0 := by decide +kernel
theorem dksJ11_unlink_1 : cJ11_unlink.data.toList.drop 23 = dktJ11_unlink_1 := dk_seg dksJ11_unlink_0 23 rfl rfl
theorem dksJ11_unlink_2 : cJ11_unlink.data.toList.drop 47 = dktJ11_unlink_2 := dk_seg dksJ11_unlink_1 24 rfl rfl
theorem dksJ11_unlink_3 : cJ11_unlink.data.toList.drop 71 = dktJ11_unlink_3 := dk_seg dksJ11_unlink_2 24 rfl rfl
theorem dJ11_unlink_0 : decode cJ11_unlink 0 = .ok (.aload_n 1, 1) := dk_43 (dk_at dksJ11_unlink_0 0 rfl rfl)
theorem dJ11_unlink_1 : decode cJ11_unlink 1 = .ok (.getfield 39, 3) := dk_180 0 39 (dk_at dksJ11_unlink_0 1 rfl rfl)
theorem dJ11_unlink_4 : decode cJ11_unlink 4 = .ok (.astore_n 2, 1) := dk_77 (dk_at dksJ11_unlink_0 4 rfl rfl)
theorem dJ11_unlink_5 : decode cJ11_unlink 5 = .ok (.aload_n 1, 1) := dk_43 (dk_at dksJ11_unlink_0 5 rfl rfl)
theorem dJ11_unlink_6 : decode cJ11_unlink 6 = .ok (.getfield 36, 3) := dk_180 0 36 (dk_at dksJ11_unlink_0 6 rfl rfl)
theorem dJ11_unlink_9 : decode cJ11_unlink 9 = .ok (.astore_n 3, 1) := dk_78 (dk_at dksJ11_unlink_0 9 rfl rfl)
theorem dJ11_unlink_10 : decode cJ11_unlink 10 = .ok (.aload_n 1, 1) := dk_43 (dk_at dksJ11_unlink_0 10 rfl rfl)
theorem dJ11_unlink_11 : decode cJ11_unlink 11 = .ok (.getfield 30, 3) := dk_180 0 30 (dk_at dksJ11_unlink_0 11 rfl rfl)
theorem dJ11_unlink_14 : decode cJ11_unlink 14 = .ok (.astore 4, 2) := dk_58 4 (dk_at dksJ11_unlink_0 14 rfl rfl)
theorem dJ11_unlink_16 : decode cJ11_unlink 16 = .ok (.aload 4, 2) := dk_25 4 (dk_at dksJ11_unlink_0 16 rfl rfl)
theorem dJ11_unlink_18 : decode cJ11_unlink 18 = .ok (.ifnonnull 11, 3) := dk_199 0 11 (dk_at dksJ11_unlink_0 18 rfl rfl)
theorem dJ11_unlink_21 : decode cJ11_unlink 21 = .ok (.aload_n 0, 1) := dk_42 (dk_at dksJ11_unlink_0 21 rfl rfl)
theorem dJ11_unlink_22 : decode cJ11_unlink 22 = .ok (.aload_n 3, 1) := dk_45 (dk_at dksJ11_unlink_0 22 rfl rfl)
theorem dJ11_unlink_23 : decode cJ11_unlink 23 = .ok (.putfield 18, 3) := dk_181 0 18 (dk_at dksJ11_unlink_1 0 rfl rfl)
theorem dJ11_unlink_26 : decode cJ11_unlink 26 = .ok (.goto 14, 3) := dk_167 0 14 (dk_at dksJ11_unlink_1 3 rfl rfl)
theorem dJ11_unlink_29 : decode cJ11_unlink 29 = .ok (.aload 4, 2) := dk_25 4 (dk_at dksJ11_unlink_1 6 rfl rfl)
theorem dJ11_unlink_31 : decode cJ11_unlink 31 = .ok (.aload_n 3, 1) := dk_45 (dk_at dksJ11_unlink_1 8 rfl rfl)
theorem dJ11_unlink_32 : decode cJ11_unlink 32 = .ok (.putfield 36, 3) := dk_181 0 36 (dk_at dksJ11_unlink_1 9 rfl rfl)
theorem dJ11_unlink_35 : decode cJ11_unlink 35 = .ok (.aload_n 1, 1) := dk_43 (dk_at dksJ11_unlink_1 12 rfl rfl)
theorem dJ11_unlink_36 : decode cJ11_unlink 36 = .ok (.aconst_null, 1) := dk_1 (dk_at dksJ11_unlink_1 13 rfl rfl)
theorem dJ11_unlink_37 : decode cJ11_unlink 37 = .ok (.putfield 30, 3) := dk_181 0 30 (dk_at dksJ11_unlink_1 14 rfl rfl)
theorem dJ11_unlink_40 : decode cJ11_unlink 40 = .ok (.aload_n 3, 1) := dk_45 (dk_at dksJ11_unlink_1 17 rfl rfl)
theorem dJ11_unlink_41 : decode cJ11_unlink 41 = .ok (.ifnonnull 12, 3) := dk_199 0 12 (dk_at dksJ11_unlink_1 18 rfl rfl)
theorem dJ11_unlink_44 : decode cJ11_unlink 44 = .ok (.aload_n 0, 1) := dk_42 (dk_at dksJ11_unlink_1 21 rfl rfl)
theorem dJ11_unlink_45 : decode cJ11_unlink 45 = .ok (.aload 4, 2) := dk_25 4 (dk_at dksJ11_unlink_1 22 rfl rfl)
theorem dJ11_unlink_47 : decode cJ11_unlink 47 = .ok (.putfield 27, 3) := dk_181 0 27 (dk_at dksJ11_unlink_2 0 rfl rfl)
theorem dJ11_unlink_50 : decode cJ11_unlink 50 = .ok (.goto 14, 3) := dk_167 0 14 (dk_at dksJ11_unlink_2 3 rfl rfl)
theorem dJ11_unlink_53 : decode cJ11_unlink 53 = .ok (.aload_n 3, 1) := dk_45 (dk_at dksJ11_unlink_2 6 rfl rfl)
theorem dJ11_unlink_54 : decode cJ11_unlink 54 = .ok (.aload 4, 2) := dk_25 4 (dk_at dksJ11_unlink_2 7 rfl rfl)
theorem dJ11_unlink_56 : decode cJ11_unlink 56 = .ok (.putfield 30, 3) := dk_181 0 30 (dk_at dksJ11_unlink_2 9 rfl rfl)
theorem dJ11_unlink_59 : decode cJ11_unlink 59 = .ok (.aload_n 1, 1) := dk_43 (dk_at dksJ11_unlink_2 12 rfl rfl)
theorem dJ11_unlink_60 : decode cJ11_unlink 60 = .ok (.aconst_null, 1) := dk_1 (dk_at dksJ11_unlink_2 13 rfl rfl)
theorem dJ11_unlink_61 : decode cJ11_unlink 61 = .ok (.putfield 36, 3) := dk_181 0 36 (dk_at dksJ11_unlink_2 14 rfl rfl)
theorem dJ11_unlink_64 : decode cJ11_unlink 64 = .ok (.aload_n 1, 1) := dk_43 (dk_at dksJ11_unlink_2 17 rfl rfl)
theorem dJ11_unlink_65 : decode cJ11_unlink 65 = .ok (.aconst_null, 1) := dk_1 (dk_at dksJ11_unlink_2 18 rfl rfl)
theorem dJ11_unlink_66 : decode cJ11_unlink 66 = .ok (.putfield 39, 3) := dk_181 0 39 (dk_at dksJ11_unlink_2 19 rfl rfl)
theorem dJ11_unlink_69 : decode cJ11_unlink 69 = .ok (.aload_n 0, 1) := dk_42 (dk_at dksJ11_unlink_2 22 rfl rfl)
theorem dJ11_unlink_70 : decode cJ11_unlink 70 = .ok (.dup, 1) := dk_89 (dk_at dksJ11_unlink_2 23 rfl rfl)
theorem dJ11_unlink_71 : decode cJ11_unlink 71 = .ok (.getfield 7, 3) := dk_180 0 7 (dk_at dksJ11_unlink_3 0 rfl rfl)
theorem dJ11_unlink_74 : decode cJ11_unlink 74 = .ok (.iconst 1, 1) := dk_4 (dk_at dksJ11_unlink_3 3 rfl rfl)
theorem dJ11_unlink_75 : decode cJ11_unlink 75 = .ok (.isub, 1) := dk_100 (dk_at dksJ11_unlink_3 4 rfl rfl)
theorem dJ11_unlink_76 : decode cJ11_unlink 76 = .ok (.putfield 7, 3) := dk_181 0 7 (dk_at dksJ11_unlink_3 5 rfl rfl)
theorem dJ11_unlink_79 : decode cJ11_unlink 79 = .ok (.aload_n 0, 1) := dk_42 (dk_at dksJ11_unlink_3 8 rfl rfl)
theorem dJ11_unlink_80 : decode cJ11_unlink 80 = .ok (.dup, 1) := dk_89 (dk_at dksJ11_unlink_3 9 rfl rfl)
theorem dJ11_unlink_81 : decode cJ11_unlink 81 = .ok (.getfield 33, 3) := dk_180 0 33 (dk_at dksJ11_unlink_3 10 rfl rfl)
theorem dJ11_unlink_84 : decode cJ11_unlink 84 = .ok (.iconst 1, 1) := dk_4 (dk_at dksJ11_unlink_3 13 rfl rfl)
theorem dJ11_unlink_85 : decode cJ11_unlink 85 = .ok (.iadd, 1) := dk_96 (dk_at dksJ11_unlink_3 14 rfl rfl)
theorem dJ11_unlink_86 : decode cJ11_unlink 86 = .ok (.putfield 33, 3) := dk_181 0 33 (dk_at dksJ11_unlink_3 15 rfl rfl)
theorem dJ11_unlink_89 : decode cJ11_unlink 89 = .ok (.aload_n 2, 1) := dk_44 (dk_at dksJ11_unlink_3 18 rfl rfl)
theorem dJ11_unlink_90 : decode cJ11_unlink 90 = .ok (.areturn, 1) := dk_176 (dk_at dksJ11_unlink_3 19 rfl rfl)
def dkwJ11_listIterator_0 : List UInt8 := [42, 27, 182, 0, 76, 187, 0, 150, 89, 42, 27, 183, 0, 152, 176]
abbrev dktJ11_listIterator_0 : List UInt8 := dkwJ11_listIterator_0 ++ []
theorem dksJ11_listIterator_0 : cJ11_listIterator.data.toList.drop 0 = dktJ11_listIterator_0 := by decide +kernel
theorem dJ11_listIterator_0 : decode cJ11_listIterator 0 = .ok (.aload_n 0, 1) := dk_42 (dk_at dksJ11_listIterator_0 0 rfl rfl)
theorem dJ11_listIterator_1 : decode cJ11_listIterator 1 = .ok (.iload_n 1, 1) := dk_27 (dk_at dksJ11_listIterator_0 1 rfl rfl)
theorem dJ11_listIterator_2 : decode cJ11_listIterator 2 = .ok (.invokevirtual 76, 3) := dk_182 0 76 (dk_at dksJ11_listIterator_0 2 rfl rfl)
theorem dJ11_listIterator_5 : decode cJ11_listIterator 5 = .ok (.new 150, 3) := dk_187 0 150 (dk_at dksJ11_listIterator_0 5 rfl rfl)
theorem dJ11_listIterator_8 : decode cJ11_listIterator 8 = .ok (.dup, 1) := dk_89 (dk_at dksJ11_listIterator_0 8 rfl rfl)
theorem dJ11_listIterator_9 : decode cJ11_listIterator 9 = .ok (.aload_n 0, 1) := dk_42 (dk_at dksJ11_listIterator_0 9 rfl rfl)
theorem dJ11_listIterator_10 : decode cJ11_listIterator 10 = .ok (.iload_n 1, 1) := dk_27 (dk_at dksJ11_listIterator_0 10 rfl rfl)
theorem dJ11_listIterator_11 : decode cJ11_listIterator 11 = .ok (.invokespecial 152, 3) := dk_183 0 152 (dk_at dksJ11_listIterator_0 11 rfl rfl)
theorem dJ11_listIterator_14 : decode cJ11_listIterator 14 = .ok (.areturn, 1) := dk_176 (dk_at dksJ11_listIterator_0 14 rfl rfl)
theorem dJ11_size_0 : decode cJ11_size 0 = .ok (.aload_n 0, 1) := by decide +kernel
theorem dJ11_size_1 : decode cJ11_size 1 = .ok (.getfield 7, 3) := by decide +kernel
theorem dJ11_size_4 : decode cJ11_size 4 = .ok (.ireturn, 1) := by decide +kernel
def dkwJ11_get_0 : List UInt8 := [42, 27, 182, 0, 90, 42, 27, 182, 0, 86, 180, 0, 39, 176]
abbrev dktJ11_get_0 : List UInt8 := dkwJ11_get_0 ++ []
theorem dksJ11_get_0 : cJ11_get.data.toList.drop 0 = dktJ11_get_0 := by decide +kernel
theorem dJ11_get_0 : decode cJ11_get 0 = .ok (.aload_n 0, 1) := dk_42 (dk_at dksJ11_get_0 0 rfl rfl)
theorem dJ11_get_1 : decode cJ11_get 1 = .ok (.iload_n 1, 1) := dk_27 (dk_at dksJ11_get_0 1 rfl rfl)
theorem dJ11_get_2 : decode cJ11_get 2 = .ok (.invokevirtual 90, 3) := dk_182 0 90 (dk_at dksJ11_get_0 2 rfl rfl)
theorem dJ11_get_5 : decode cJ11_get 5 = .ok (.aload_n 0, 1) := dk_42 (dk_at dksJ11_get_0 5 rfl rfl)
theorem dJ11_get_6 : decode cJ11_get 6 = .ok (.iload_n 1, 1) := dk_27 (dk_at dksJ11_get_0 6 rfl rfl)
theorem dJ11_get_7 : decode cJ11_get 7 = .ok (.invokevirtual 86, 3) := dk_182 0 86 (dk_at dksJ11_get_0 7 rfl rfl)
theorem dJ11_get_10 : decode cJ11_get 10 = .ok (.getfield 39, 3) := dk_180 0 39 (dk_at dksJ11_get_0 10 rfl rfl)
theorem dJ11_get_13 : decode cJ11_get 13 = .ok (.areturn, 1) := dk_176 (dk_at dksJ11_get_0 13 rfl rfl)
def dkwJ11_add_0 : List UInt8 := [42, 43, 182, 0, 57, 4, 172]
abbrev dktJ11_add_0 : List UInt8 := dkwJ11_add_0 ++ []
theorem dksJ11_add_0 : cJ11_add.data.toList.drop 0 = dktJ11_add_0 := by decide +kernel
theorem dJ11_add_0 : decode cJ11_add 0 = .ok (.aload_n 0, 1) := dk_42 (dk_at dksJ11_add_0 0 rfl rfl)
theorem dJ11_add_1 : decode cJ11_add 1 = .ok (.aload_n 1, 1) := dk_43 (dk_at dksJ11_add_0 1 rfl rfl)
theorem dJ11_add_2 : decode cJ11_add 2 = .ok (.invokevirtual 57, 3) := dk_182 0 57 (dk_at dksJ11_add_0 2 rfl rfl)
theorem dJ11_add_5 : decode cJ11_add 5 = .ok (.iconst 1, 1) := dk_4 (dk_at dksJ11_add_0 5 rfl rfl)
theorem dJ11_add_6 : decode cJ11_add 6 = .ok (.ireturn, 1) := dk_172 (dk_at dksJ11_add_0 6 rfl rfl)
def dkwJ11_linkLast_2 : List UInt8 := [181, 0, 7, 42, 89, 180, 0, 33, 4, 96, 181, 0, 33, 177]
abbrev dktJ11_linkLast_2 : List UInt8 := dkwJ11_linkLast_2 ++ []
def dkwJ11_linkLast_1 : List UInt8 := [199, 0, 11, 42, 45, 181, 0, 18, 167, 0, 8, 44, 45, 181, 0, 36, 42, 89, 180, 0, 7, 4, 96]
abbrev dktJ11_linkLast_1 : List UInt8 := dkwJ11_linkLast_1 ++ dktJ11_linkLast_2
def dkwJ11_linkLast_0 : List UInt8 := [42, 180, 0, 27, 77, 187, 0, 22, 89, 44, 43, 1, 183, 0, 24, 78, 42, 45, 181, 0, 27, 44]
abbrev dktJ11_linkLast_0 : List UInt8 := dkwJ11_linkLast_0 ++ dktJ11_linkLast_1
theorem dksJ11_linkLast_0 : cJ11_linkLast.data.toList.drop 0 = dktJ11_linkLast_0 := by decide +kernel
theorem dksJ11_linkLast_1 : cJ11_linkLast.data.toList.drop 22 = dktJ11_linkLast_1 := dk_seg dksJ11_linkLast_0 22 rfl rfl
theorem dksJ11_linkLast_2 : cJ11_linkLast.data.toList.drop 45 = dktJ11_linkLast_2 := dk_seg dksJ11_linkLast_1 23 rfl rfl
theorem dJ11_linkLast_0 : decode cJ11_linkLast 0 = .ok (.aload_n 0, 1) := dk_42 (dk_at dksJ11_linkLast_0 0 rfl rfl)
theorem dJ11_linkLast_1 : decode cJ11_linkLast 1 = .ok (.getfield 27, 3) := dk_180 0 27 (dk_at dksJ11_linkLast_0 1 rfl rfl)
theorem dJ11_linkLast_4 : decode cJ11_linkLast 4 = .ok (.astore_n 2, 1) := dk_77 (dk_at dksJ11_linkLast_0 4 rfl rfl)
theorem dJ11_linkLast_5 : decode cJ11_linkLast 5 = .ok (.new 22, 3) := dk_187 0 22 (dk_at dksJ11_linkLast_0 5 rfl rfl)
theorem dJ11_linkLast_8 : decode cJ11_linkLast 8 = .ok (.dup, 1) := dk_89 (dk_at dksJ11_linkLast_0 8 rfl rfl)
theorem dJ11_linkLast_9 : decode cJ11_linkLast 9 = .ok (.aload_n 2, 1) := dk_44 (dk_at dksJ11_linkLast_0 9 rfl rfl)
theorem dJ11_linkLast_10 : decode cJ11_linkLast 10 = .ok (.aload_n 1, 1) := dk_43 (dk_at dksJ11_linkLast_0 10 rfl rfl)
theorem dJ11_linkLast_11 : decode cJ11_linkLast 11 = .ok (.aconst_null, 1) := dk_1 (dk_at dksJ11_linkLast_0 11 rfl rfl)
theorem dJ11_linkLast_12 : decode cJ11_linkLast 12 = .ok (.invokespecial 24, 3) := dk_183 0 24 (dk_at dksJ11_linkLast_0 12 rfl rfl)
theorem dJ11_linkLast_15 : decode cJ11_linkLast 15 = .ok (.astore_n 3, 1) := dk_78 (dk_at dksJ11_linkLast_0 15 rfl rfl)
theorem dJ11_linkLast_16 : decode cJ11_linkLast 16 = .ok (.aload_n 0, 1) := dk_42 (dk_at dksJ11_linkLast_0 16 rfl rfl)
theorem dJ11_linkLast_17 : decode cJ11_linkLast 17 = .ok (.aload_n 3, 1) := dk_45 (dk_at dksJ11_linkLast_0 17 rfl rfl)
theorem dJ11_linkLast_18 : decode cJ11_linkLast 18 = .ok (.putfield 27, 3) := dk_181 0 27 (dk_at dksJ11_linkLast_0 18 rfl rfl)
theorem dJ11_linkLast_21 : decode cJ11_linkLast 21 = .ok (.aload_n 2, 1) := dk_44 (dk_at dksJ11_linkLast_0 21 rfl rfl)
theorem dJ11_linkLast_22 : decode cJ11_linkLast 22 = .ok (.ifnonnull 11, 3) := dk_199 0 11 (dk_at dksJ11_linkLast_1 0 rfl rfl)
theorem dJ11_linkLast_25 : decode cJ11_linkLast 25 = .ok (.aload_n 0, 1) := dk_42 (dk_at dksJ11_linkLast_1 3 rfl rfl)
theorem dJ11_linkLast_26 : decode cJ11_linkLast 26 = .ok (.aload_n 3, 1) := dk_45 (dk_at dksJ11_linkLast_1 4 rfl rfl)
theorem dJ11_linkLast_27 : decode cJ11_linkLast 27 = .ok (.putfield 18, 3) := dk_181 0 18 (dk_at dksJ11_linkLast_1 5 rfl rfl)
theorem dJ11_linkLast_30 : decode cJ11_linkLast 30 = .ok (.goto 8, 3) := dk_167 0 8 (dk_at dksJ11_linkLast_1 8 rfl rfl)
theorem dJ11_linkLast_33 : decode cJ11_linkLast 33 = .ok (.aload_n 2, 1) := dk_44 (dk_at dksJ11_linkLast_1 11 rfl rfl)
theorem dJ11_linkLast_34 : decode cJ11_linkLast 34 = .ok (.aload_n 3, 1) := dk_45 (dk_at dksJ11_linkLast_1 12 rfl rfl)
theorem dJ11_linkLast_35 : decode cJ11_linkLast 35 = .ok (.putfield 36, 3) := dk_181 0 36 (dk_at dksJ11_linkLast_1 13 rfl rfl)
theorem dJ11_linkLast_38 : decode cJ11_linkLast 38 = .ok (.aload_n 0, 1) := dk_42 (dk_at dksJ11_linkLast_1 16 rfl rfl)
theorem dJ11_linkLast_39 : decode cJ11_linkLast 39 = .ok (.dup, 1) := dk_89 (dk_at dksJ11_linkLast_1 17 rfl rfl)
theorem dJ11_linkLast_40 : decode cJ11_linkLast 40 = .ok (.getfield 7, 3) := dk_180 0 7 (dk_at dksJ11_linkLast_1 18 rfl rfl)
theorem dJ11_linkLast_43 : decode cJ11_linkLast 43 = .ok (.iconst 1, 1) := dk_4 (dk_at dksJ11_linkLast_1 21 rfl rfl)
theorem dJ11_linkLast_44 : decode cJ11_linkLast 44 = .ok (.iadd, 1) := dk_96 (dk_at dksJ11_linkLast_1 22 rfl rfl)
theorem dJ11_linkLast_45 : decode cJ11_linkLast 45 = .ok (.putfield 7, 3) := dk_181 0 7 (dk_at dksJ11_linkLast_2 0 rfl rfl)
theorem dJ11_linkLast_48 : decode cJ11_linkLast 48 = .ok (.aload_n 0, 1) := dk_42 (dk_at dksJ11_linkLast_2 3 rfl rfl)
theorem dJ11_linkLast_49 : decode cJ11_linkLast 49 = .ok (.dup, 1) := dk_89 (dk_at dksJ11_linkLast_2 4 rfl rfl)
theorem dJ11_linkLast_50 : decode cJ11_linkLast 50 = .ok (.getfield 33, 3) := dk_180 0 33 (dk_at dksJ11_linkLast_2 5 rfl rfl)
theorem dJ11_linkLast_53 : decode cJ11_linkLast 53 = .ok (.iconst 1, 1) := dk_4 (dk_at dksJ11_linkLast_2 8 rfl rfl)
theorem dJ11_linkLast_54 : decode cJ11_linkLast 54 = .ok (.iadd, 1) := dk_96 (dk_at dksJ11_linkLast_2 9 rfl rfl)
theorem dJ11_linkLast_55 : decode cJ11_linkLast 55 = .ok (.putfield 33, 3) := dk_181 0 33 (dk_at dksJ11_linkLast_2 10 rfl rfl)
theorem dJ11_linkLast_58 : decode cJ11_linkLast 58 = .ok (.return_, 1) := dk_177 (dk_at dksJ11_linkLast_2 13 rfl rfl)
def dkwJ11_poll_0 : List UInt8 := [42, 180, 0, 18, 76, 43, 199, 0, 7, 1, 167, 0, 8, 42, 43, 182, 0, 46, 176]
abbrev dktJ11_poll_0 : List UInt8 := dkwJ11_poll_0 ++ []
theorem dksJ11_poll_0 : cJ11_poll.data.toList.drop 0 = dktJ11_poll_0 := by decide +kernel
theorem dJ11_poll_0 : decode cJ11_poll 0 = .ok (.aload_n 0, 1) := dk_42 (dk_at dksJ11_poll_0 0 rfl rfl)
theorem dJ11_poll_1 : decode cJ11_poll 1 = .ok (.getfield 18, 3) := dk_180 0 18 (dk_at dksJ11_poll_0 1 rfl rfl)
theorem dJ11_poll_4 : decode cJ11_poll 4 = .ok (.astore_n 1, 1) := dk_76 (dk_at dksJ11_poll_0 4 rfl rfl)
theorem dJ11_poll_5 : decode cJ11_poll 5 = .ok (.aload_n 1, 1) := dk_43 (dk_at dksJ11_poll_0 5 rfl rfl)
theorem dJ11_poll_6 : decode cJ11_poll 6 = .ok (.ifnonnull 7, 3) := dk_199 0 7 (dk_at dksJ11_poll_0 6 rfl rfl)
theorem dJ11_poll_9 : decode cJ11_poll 9 = .ok (.aconst_null, 1) := dk_1 (dk_at dksJ11_poll_0 9 rfl rfl)
theorem dJ11_poll_10 : decode cJ11_poll 10 = .ok (.goto 8, 3) := dk_167 0 8 (dk_at dksJ11_poll_0 10 rfl rfl)
theorem dJ11_poll_13 : decode cJ11_poll 13 = .ok (.aload_n 0, 1) := dk_42 (dk_at dksJ11_poll_0 13 rfl rfl)
theorem dJ11_poll_14 : decode cJ11_poll 14 = .ok (.aload_n 1, 1) := dk_43 (dk_at dksJ11_poll_0 14 rfl rfl)
theorem dJ11_poll_15 : decode cJ11_poll 15 = .ok (.invokevirtual 46, 3) := dk_182 0 46 (dk_at dksJ11_poll_0 15 rfl rfl)
theorem dJ11_poll_18 : decode cJ11_poll 18 = .ok (.areturn, 1) := dk_176 (dk_at dksJ11_poll_0 18 rfl rfl)
def dkwJ11_unlinkFirst_2 : List UInt8 := [180, 0, 7, 4, 100, 181, 0, 7, 42, 89, 180, 0, 33, 4, 96, 181, 0, 33, 44, 176]
abbrev dktJ11_unlinkFirst_2 : List UInt8 := dkwJ11_unlinkFirst_2 ++ []
def dkwJ11_unlinkFirst_1 : List UInt8 := [181, 0, 18, 45, 199, 0, 11, 42, 1, 181, 0, 27, 167, 0, 8, 45, 1, 181, 0, 30, 42, 89]
abbrev dktJ11_unlinkFirst_1 : List UInt8 := dkwJ11_unlinkFirst_1 ++ dktJ11_unlinkFirst_2
def dkwJ11_unlinkFirst_0 : List UInt8 := [43, 180, 0, 39, 77, 43, 180, 0, 36, 78, 43, 1, 181, 0, 39, 43, 1, 181, 0, 36, 42, 45]
abbrev dktJ11_unlinkFirst_0 : List UInt8 := dkwJ11_unlinkFirst_0 ++ dktJ11_unlinkFirst_1
theorem dksJ11_unlinkFirst_0 : cJ11_unlinkFirst.data.toList.drop 0 = dktJ11_unlinkFirst_0 := by decide +kernel
theorem dksJ11_unlinkFirst_1 : cJ11_unlinkFirst.data.toList.drop 22 = dktJ11_unlinkFirst_1 := dk_seg dksJ11_unlinkFirst_0 22 rfl rfl
theorem dksJ11_unlinkFirst_2 : cJ11_unlinkFirst.data.toList.drop 44 = dktJ11_unlinkFirst_2 := dk_seg dksJ11_unlinkFirst_1 22 rfl rfl
theorem dJ11_unlinkFirst_0 : decode cJ11_unlinkFirst 0 = .ok (.aload_n 1, 1) := dk_43 (dk_at dksJ11_unlinkFirst_0 0 rfl rfl)
theorem dJ11_unlinkFirst_1 : decode cJ11_unlinkFirst 1 = .ok (.getfield 39, 3) := dk_180 0 39 (dk_at dksJ11_unlinkFirst_0 1 rfl rfl)
theorem dJ11_unlinkFirst_4 : decode cJ11_unlinkFirst 4 = .ok (.astore_n 2, 1) := dk_77 (dk_at dksJ11_unlinkFirst_0 4 rfl rfl)
theorem dJ11_unlinkFirst_5 : decode cJ11_unlinkFirst 5 = .ok (.aload_n 1, 1) := dk_43 (dk_at dksJ11_unlinkFirst_0 5 rfl rfl)
theorem dJ11_unlinkFirst_6 : decode cJ11_unlinkFirst 6 = .ok (.getfield 36, 3) := dk_180 0 36 (dk_at dksJ11_unlinkFirst_0 6 rfl rfl)
theorem dJ11_unlinkFirst_9 : decode cJ11_unlinkFirst 9 = .ok (.astore_n 3, 1) := dk_78 (dk_at dksJ11_unlinkFirst_0 9 rfl rfl)
theorem dJ11_unlinkFirst_10 : decode cJ11_unlinkFirst 10 = .ok (.aload_n 1, 1) := dk_43 (dk_at dksJ11_unlinkFirst_0 10 rfl rfl)
theorem dJ11_unlinkFirst_11 : decode cJ11_unlinkFirst 11 = .ok (.aconst_null, 1) := dk_1 (dk_at dksJ11_unlinkFirst_0 11 rfl rfl)
theorem dJ11_unlinkFirst_12 : decode cJ11_unlinkFirst 12 = .ok (.putfield 39, 3) := dk_181 0 39 (dk_at dksJ11_unlinkFirst_0 12 rfl rfl)
theorem dJ11_unlinkFirst_15 : decode cJ11_unlinkFirst 15 = .ok (.aload_n 1, 1) := dk_43 (dk_at dksJ11_unlinkFirst_0 15 rfl rfl)
theorem dJ11_unlinkFirst_16 : decode cJ11_unlinkFirst 16 = .ok (.aconst_null, 1) := dk_1 (dk_at dksJ11_unlinkFirst_0 16 rfl rfl)
theorem dJ11_unlinkFirst_17 : decode cJ11_unlinkFirst 17 = .ok (.putfield 36, 3) := dk_181 0 36 (dk_at dksJ11_unlinkFirst_0 17 rfl rfl)
theorem dJ11_unlinkFirst_20 : decode cJ11_unlinkFirst 20 = .ok (.aload_n 0, 1) := dk_42 (dk_at dksJ11_unlinkFirst_0 20 rfl rfl)
theorem dJ11_unlinkFirst_21 : decode cJ11_unlinkFirst 21 = .ok (.aload_n 3, 1) := dk_45 (dk_at dksJ11_unlinkFirst_0 21 rfl rfl)
theorem dJ11_unlinkFirst_22 : decode cJ11_unlinkFirst 22 = .ok (.putfield 18, 3) := dk_181 0 18 (dk_at dksJ11_unlinkFirst_1 0 rfl rfl)
theorem dJ11_unlinkFirst_25 : decode cJ11_unlinkFirst 25 = .ok (.aload_n 3, 1) := dk_45 (dk_at dksJ11_unlinkFirst_1 3 rfl rfl)
theorem dJ11_unlinkFirst_26 : decode cJ11_unlinkFirst 26 = .ok (.ifnonnull 11, 3) := dk_199 0 11 (dk_at dksJ11_unlinkFirst_1 4 rfl rfl)
theorem dJ11_unlinkFirst_29 : decode cJ11_unlinkFirst 29 = .ok (.aload_n 0, 1) := dk_42 (dk_at dksJ11_unlinkFirst_1 7 rfl rfl)
theorem dJ11_unlinkFirst_30 : decode cJ11_unlinkFirst 30 = .ok (.aconst_null, 1) := dk_1 (dk_at dksJ11_unlinkFirst_1 8 rfl rfl)
theorem dJ11_unlinkFirst_31 : decode cJ11_unlinkFirst 31 = .ok (.putfield 27, 3) := dk_181 0 27 (dk_at dksJ11_unlinkFirst_1 9 rfl rfl)
theorem dJ11_unlinkFirst_34 : decode cJ11_unlinkFirst 34 = .ok (.goto 8, 3) := dk_167 0 8 (dk_at dksJ11_unlinkFirst_1 12 rfl rfl)
theorem dJ11_unlinkFirst_37 : decode cJ11_unlinkFirst 37 = .ok (.aload_n 3, 1) := dk_45 (dk_at dksJ11_unlinkFirst_1 15 rfl rfl)
theorem dJ11_unlinkFirst_38 : decode cJ11_unlinkFirst 38 = .ok (.aconst_null, 1) := dk_1 (dk_at dksJ11_unlinkFirst_1 16 rfl rfl)
theorem dJ11_unlinkFirst_39 : decode cJ11_unlinkFirst 39 = .ok (.putfield 30, 3) := dk_181 0 30 (dk_at dksJ11_unlinkFirst_1 17 rfl rfl)
theorem dJ11_unlinkFirst_42 : decode cJ11_unlinkFirst 42 = .ok (.aload_n 0, 1) := dk_42 (dk_at dksJ11_unlinkFirst_1 20 rfl rfl)
theorem dJ11_unlinkFirst_43 : decode cJ11_unlinkFirst 43 = .ok (.dup, 1) := dk_89 (dk_at dksJ11_unlinkFirst_1 21 rfl rfl)
theorem dJ11_unlinkFirst_44 : decode cJ11_unlinkFirst 44 = .ok (.getfield 7, 3) := dk_180 0 7 (dk_at dksJ11_unlinkFirst_2 0 rfl rfl)
theorem dJ11_unlinkFirst_47 : decode cJ11_unlinkFirst 47 = .ok (.iconst 1, 1) := dk_4 (dk_at dksJ11_unlinkFirst_2 3 rfl rfl)
theorem dJ11_unlinkFirst_48 : decode cJ11_unlinkFirst 48 = .ok (.isub, 1) := dk_100 (dk_at dksJ11_unlinkFirst_2 4 rfl rfl)
theorem dJ11_unlinkFirst_49 : decode cJ11_unlinkFirst 49 = .ok (.putfield 7, 3) := dk_181 0 7 (dk_at dksJ11_unlinkFirst_2 5 rfl rfl)
theorem dJ11_unlinkFirst_52 : decode cJ11_unlinkFirst 52 = .ok (.aload_n 0, 1) := dk_42 (dk_at dksJ11_unlinkFirst_2 8 rfl rfl)
theorem dJ11_unlinkFirst_53 : decode cJ11_unlinkFirst 53 = .ok (.dup, 1) := dk_89 (dk_at dksJ11_unlinkFirst_2 9 rfl rfl)
theorem dJ11_unlinkFirst_54 : decode cJ11_unlinkFirst 54 = .ok (.getfield 33, 3) := dk_180 0 33 (dk_at dksJ11_unlinkFirst_2 10 rfl rfl)
theorem dJ11_unlinkFirst_57 : decode cJ11_unlinkFirst 57 = .ok (.iconst 1, 1) := dk_4 (dk_at dksJ11_unlinkFirst_2 13 rfl rfl)
theorem dJ11_unlinkFirst_58 : decode cJ11_unlinkFirst 58 = .ok (.iadd, 1) := dk_96 (dk_at dksJ11_unlinkFirst_2 14 rfl rfl)
theorem dJ11_unlinkFirst_59 : decode cJ11_unlinkFirst 59 = .ok (.putfield 33, 3) := dk_181 0 33 (dk_at dksJ11_unlinkFirst_2 15 rfl rfl)
theorem dJ11_unlinkFirst_62 : decode cJ11_unlinkFirst 62 = .ok (.aload_n 2, 1) := dk_44 (dk_at dksJ11_unlinkFirst_2 18 rfl rfl)
theorem dJ11_unlinkFirst_63 : decode cJ11_unlinkFirst 63 = .ok (.areturn, 1) := dk_176 (dk_at dksJ11_unlinkFirst_2 19 rfl rfl)
theorem dJ12_init_0 : decode cJ12_init 0 = .ok (.aload_n 0, 1) := by decide +kernel
theorem dJ12_init_1 : decode cJ12_init 1 = .ok (.invokespecial 1, 3) := by decide +kernel
theorem dJ12_init_4 : decode cJ12_init 4 = .ok (.return_, 1) := by decide +kernel
def dkwJ13_valueOf_1 : List UInt8 := [187, 0, 1, 89, 26, 183, 0, 199, 176]
abbrev dktJ13_valueOf_1 : List UInt8 := dkwJ13_valueOf_1 ++ []
def dkwJ13_valueOf_0 : List UInt8 := [26, 16, 128, 161, 0, 20, 26, 178, 0, 191, 163, 0, 13, 178, 0, 195, 26, 17, 0, 128, 96, 50, 176]
abbrev dktJ13_valueOf_0 : List UInt8 := dkwJ13_valueOf_0 ++ dktJ13_valueOf_1
theorem dksJ13_valueOf_0 : cJ13_valueOf.data.toList.drop 0 = dktJ13_valueOf_0 := by decide +kernel
theorem dksJ13_valueOf_1 : cJ13_valueOf.data.toList.drop 23 = dktJ13_valueOf_1 := dk_seg dksJ13_valueOf_0 23 rfl rfl
theorem dJ13_valueOf_0 : decode cJ13_valueOf 0 = .ok (.iload_n 0, 1) := dk_26 (dk_at dksJ13_valueOf_0 0 rfl rfl)
theorem dJ13_valueOf_1 : decode cJ13_valueOf 1 = .ok (.bipush (-128), 2) := dk_16 128 (dk_at dksJ13_valueOf_0 1 rfl rfl)
theorem dJ13_valueOf_3 : decode cJ13_valueOf 3 = .ok (.if_icmp .lt 20, 3) := dk_161 0 20 (dk_at dksJ13_valueOf_0 3 rfl rfl)
theorem dJ13_valueOf_6 : decode cJ13_valueOf 6 = .ok (.iload_n 0, 1) := dk_26 (dk_at dksJ13_valueOf_0 6 rfl rfl)
theorem dJ13_valueOf_7 : decode cJ13_valueOf 7 = .ok (.getstatic 191, 3) := dk_178 0 191 (dk_at dksJ13_valueOf_0 7 rfl rfl)
theorem dJ13_valueOf_10 : decode cJ13_valueOf 10 = .ok (.if_icmp .gt 13, 3) := dk_163 0 13 (dk_at dksJ13_valueOf_0 10 rfl rfl)
theorem dJ13_valueOf_13 : decode cJ13_valueOf 13 = .ok (.getstatic 195, 3) := dk_178 0 195 (dk_at dksJ13_valueOf_0 13 rfl rfl)
theorem dJ13_valueOf_16 : decode cJ13_valueOf 16 = .ok (.iload_n 0, 1) := dk_26 (dk_at dksJ13_valueOf_0 16 rfl rfl)
theorem dJ13_valueOf_17 : decode cJ13_valueOf 17 = .ok (.sipush 128, 3) := dk_17 0 128 (dk_at dksJ13_valueOf_0 17 rfl rfl)
theorem dJ13_valueOf_20 : decode cJ13_valueOf 20 = .ok (.iadd, 1) := dk_96 (dk_at dksJ13_valueOf_0 20 rfl rfl)
theorem dJ13_valueOf_21 : decode cJ13_valueOf 21 = .ok (.aaload, 1) := dk_50 (dk_at dksJ13_valueOf_0 21 rfl rfl)
theorem dJ13_valueOf_22 : decode cJ13_valueOf 22 = .ok (.areturn, 1) := dk_176 (dk_at dksJ13_valueOf_0 22 rfl rfl)
theorem dJ13_valueOf_23 : decode cJ13_valueOf 23 = .ok (.new 1, 3) := dk_187 0 1 (dk_at dksJ13_valueOf_1 0 rfl rfl)
theorem dJ13_valueOf_26 : decode cJ13_valueOf 26 = .ok (.dup, 1) := dk_89 (dk_at dksJ13_valueOf_1 3 rfl rfl)
theorem dJ13_valueOf_27 : decode cJ13_valueOf 27 = .ok (.iload_n 0, 1) := dk_26 (dk_at dksJ13_valueOf_1 4 rfl rfl)
theorem dJ13_valueOf_28 : decode cJ13_valueOf 28 = .ok (.invokespecial 199, 3) := dk_183 0 199 (dk_at dksJ13_valueOf_1 5 rfl rfl)
theorem dJ13_valueOf_31 : decode cJ13_valueOf 31 = .ok (.areturn, 1) := dk_176 (dk_at dksJ13_valueOf_1 8 rfl rfl)
def dkwJ13_init_0 : List UInt8 := [42, 183, 0, 202, 42, 27, 181, 0, 205, 177]
abbrev dktJ13_init_0 : List UInt8 := dkwJ13_init_0 ++ []
theorem dksJ13_init_0 : cJ13_init.data.toList.drop 0 = dktJ13_init_0 := by decide +kernel
theorem dJ13_init_0 : decode cJ13_init 0 = .ok (.aload_n 0, 1) := dk_42 (dk_at dksJ13_init_0 0 rfl rfl)
theorem dJ13_init_1 : decode cJ13_init 1 = .ok (.invokespecial 202, 3) := dk_183 0 202 (dk_at dksJ13_init_0 1 rfl rfl)
theorem dJ13_init_4 : decode cJ13_init 4 = .ok (.aload_n 0, 1) := dk_42 (dk_at dksJ13_init_0 4 rfl rfl)
theorem dJ13_init_5 : decode cJ13_init 5 = .ok (.iload_n 1, 1) := dk_27 (dk_at dksJ13_init_0 5 rfl rfl)
theorem dJ13_init_6 : decode cJ13_init 6 = .ok (.putfield 205, 3) := dk_181 0 205 (dk_at dksJ13_init_0 6 rfl rfl)
theorem dJ13_init_9 : decode cJ13_init 9 = .ok (.return_, 1) := dk_177 (dk_at dksJ13_init_0 9 rfl rfl)
theorem dJ13_intValue_0 : decode cJ13_intValue 0 = .ok (.aload_n 0, 1) := by decide +kernel
theorem dJ13_intValue_1 : decode cJ13_intValue 1 = .ok (.getfield 205, 3) := by decide +kernel
theorem dJ13_intValue_4 : decode cJ13_intValue 4 = .ok (.ireturn, 1) := by decide +kernel
def dkwJ13_numberOfTrailingZeros_3 : List UInt8 := [5, 124, 59, 27, 26, 4, 124, 96, 172]
abbrev dktJ13_numberOfTrailingZeros_3 : List UInt8 := dkwJ13_numberOfTrailingZeros_3 ++ []
def dkwJ13_numberOfTrailingZeros_2 : List UInt8 := [124, 59, 26, 16, 16, 164, 0, 10, 132, 1, 4, 26, 7, 124, 59, 26, 7, 164, 0, 10, 132, 1, 2, 26]
abbrev dktJ13_numberOfTrailingZeros_2 : List UInt8 := dkwJ13_numberOfTrailingZeros_2 ++ dktJ13_numberOfTrailingZeros_3
def dkwJ13_numberOfTrailingZeros_1 : List UInt8 := [164, 0, 11, 132, 1, 16, 26, 16, 16, 124, 59, 26, 17, 1, 0, 164, 0, 11, 132, 1, 8, 26, 16, 8]
abbrev dktJ13_numberOfTrailingZeros_1 : List UInt8 := dkwJ13_numberOfTrailingZeros_1 ++ dktJ13_numberOfTrailingZeros_2
def dkwJ13_numberOfTrailingZeros_0 : List UInt8 := [26, 2, 130, 26, 4, 100, 126, 59, 26, 157, 0, 8, 26, 16, 32, 126, 172, 4, 60, 26, 19, 1, 8]
abbrev dktJ13_numberOfTrailingZeros_0 : List UInt8 := dkwJ13_numberOfTrailingZeros_0 ++ dktJ13_numberOfTrailingZeros_1
theorem dksJ13_numberOfTrailingZeros_0 : cJ13_numberOfTrailingZeros.data.toList.drop 0 = dktJ13_numberOfTrailingZeros_0 := by decide +kernel
theorem dksJ13_numberOfTrailingZeros_1 : cJ13_numberOfTrailingZeros.data.toList.drop 23 = dktJ13_numberOfTrailingZeros_1 := dk_seg dksJ13_numberOfTrailingZeros_0 23 rfl rfl
theorem dksJ13_numberOfTrailingZeros_2 : cJ13_numberOfTrailingZeros.data.toList.drop 47 = dktJ13_numberOfTrailingZeros_2 := dk_seg dksJ13_numberOfTrailingZeros_1 24 rfl rfl
theorem dksJ13_numberOfTrailingZeros_3 : cJ13_numberOfTrailingZeros.data.toList.drop 71 = dktJ13_numberOfTrailingZeros_3 := dk_seg dksJ13_numberOfTrailingZeros_2 24 rfl rfl
theorem dJ13_numberOfTrailingZeros_0 : decode cJ13_numberOfTrailingZeros 0 = .ok (.iload_n 0, 1) := dk_26 (dk_at dksJ13_numberOfTrailingZeros_0 0 rfl rfl)
theorem dJ13_numberOfTrailingZeros_1 : decode cJ13_numberOfTrailingZeros 1 = .ok (.iconst (-1), 1) := dk_2 (dk_at dksJ13_numberOfTrailingZeros_0 1 rfl rfl)
theorem dJ13_numberOfTrailingZeros_2 : decode cJ13_numberOfTrailingZeros 2 = .ok (.ixor, 1) := dk_130 (dk_at dksJ13_numberOfTrailingZeros_0 2 rfl rfl)
theorem dJ13_numberOfTrailingZeros_3 : decode cJ13_numberOfTrailingZeros 3 = .ok (.iload_n 0, 1) := dk_26 (dk_at dksJ13_numberOfTrailingZeros_0 3 rfl rfl)
theorem dJ13_numberOfTrailingZeros_4 : decode cJ13_numberOfTrailingZeros 4 = .ok (.iconst 1, 1) := dk_4 (dk_at dksJ13_numberOfTrailingZeros_0 4 rfl rfl)
theorem dJ13_numberOfTrailingZeros_5 : decode cJ13_numberOfTrailingZeros 5 = .ok (.isub, 1) := dk_100 (dk_at dksJ13_numberOfTrailingZeros_0 5 rfl rfl)
theorem dJ13_numberOfTrailingZeros_6 : decode cJ13_numberOfTrailingZeros 6 = .ok (.iand, 1) := dk_126 (dk_at dksJ13_numberOfTrailingZeros_0 6 rfl rfl)
theorem dJ13_numberOfTrailingZeros_7 : decode cJ13_numberOfTrailingZeros 7 = .ok (.istore_n 0, 1) := dk_59 (dk_at dksJ13_numberOfTrailingZeros_0 7 rfl rfl)
theorem dJ13_numberOfTrailingZeros_8 : decode cJ13_numberOfTrailingZeros 8 = .ok (.iload_n 0, 1) := dk_26 (dk_at dksJ13_numberOfTrailingZeros_0 8 rfl rfl)
theorem dJ13_numberOfTrailingZeros_9 : decode cJ13_numberOfTrailingZeros 9 = .ok (.ifCond .gt 8, 3) := dk_157 0 8 (dk_at dksJ13_numberOfTrailingZeros_0 9 rfl rfl)
theorem dJ13_numberOfTrailingZeros_12 : decode cJ13_numberOfTrailingZeros 12 = .ok (.iload_n 0, 1) := dk_26 (dk_at dksJ13_numberOfTrailingZeros_0 12 rfl rfl)
theorem dJ13_numberOfTrailingZeros_13 : decode cJ13_numberOfTrailingZeros 13 = .ok (.bipush 32, 2) := dk_16 32 (dk_at dksJ13_numberOfTrailingZeros_0 13 rfl rfl)
theorem dJ13_numberOfTrailingZeros_15 : decode cJ13_numberOfTrailingZeros 15 = .ok (.iand, 1) := dk_126 (dk_at dksJ13_numberOfTrailingZeros_0 15 rfl rfl)
theorem dJ13_numberOfTrailingZeros_16 : decode cJ13_numberOfTrailingZeros 16 = .ok (.ireturn, 1) := dk_172 (dk_at dksJ13_numberOfTrailingZeros_0 16 rfl rfl)
theorem dJ13_numberOfTrailingZeros_17 : decode cJ13_numberOfTrailingZeros 17 = .ok (.iconst 1, 1) := dk_4 (dk_at dksJ13_numberOfTrailingZeros_0 17 rfl rfl)
theorem dJ13_numberOfTrailingZeros_18 : decode cJ13_numberOfTrailingZeros 18 = .ok (.istore_n 1, 1) := dk_60 (dk_at dksJ13_numberOfTrailingZeros_0 18 rfl rfl)
theorem dJ13_numberOfTrailingZeros_19 : decode cJ13_numberOfTrailingZeros 19 = .ok (.iload_n 0, 1) := dk_26 (dk_at dksJ13_numberOfTrailingZeros_0 19 rfl rfl)
theorem dJ13_numberOfTrailingZeros_20 : decode cJ13_numberOfTrailingZeros 20 = .ok (.ldc_w 264, 3) := dk_19 1 8 (dk_at dksJ13_numberOfTrailingZeros_0 20 rfl rfl)
theorem dJ13_numberOfTrailingZeros_23 : decode cJ13_numberOfTrailingZeros 23 = .ok (.if_icmp .le 11, 3) := dk_164 0 11 (dk_at dksJ13_numberOfTrailingZeros_1 0 rfl rfl)
theorem dJ13_numberOfTrailingZeros_26 : decode cJ13_numberOfTrailingZeros 26 = .ok (.iinc 1 16, 3) := dk_132 1 16 (dk_at dksJ13_numberOfTrailingZeros_1 3 rfl rfl)
theorem dJ13_numberOfTrailingZeros_29 : decode cJ13_numberOfTrailingZeros 29 = .ok (.iload_n 0, 1) := dk_26 (dk_at dksJ13_numberOfTrailingZeros_1 6 rfl rfl)
theorem dJ13_numberOfTrailingZeros_30 : decode cJ13_numberOfTrailingZeros 30 = .ok (.bipush 16, 2) := dk_16 16 (dk_at dksJ13_numberOfTrailingZeros_1 7 rfl rfl)
theorem dJ13_numberOfTrailingZeros_32 : decode cJ13_numberOfTrailingZeros 32 = .ok (.iushr, 1) := dk_124 (dk_at dksJ13_numberOfTrailingZeros_1 9 rfl rfl)
theorem dJ13_numberOfTrailingZeros_33 : decode cJ13_numberOfTrailingZeros 33 = .ok (.istore_n 0, 1) := dk_59 (dk_at dksJ13_numberOfTrailingZeros_1 10 rfl rfl)
theorem dJ13_numberOfTrailingZeros_34 : decode cJ13_numberOfTrailingZeros 34 = .ok (.iload_n 0, 1) := dk_26 (dk_at dksJ13_numberOfTrailingZeros_1 11 rfl rfl)
theorem dJ13_numberOfTrailingZeros_35 : decode cJ13_numberOfTrailingZeros 35 = .ok (.sipush 256, 3) := dk_17 1 0 (dk_at dksJ13_numberOfTrailingZeros_1 12 rfl rfl)
theorem dJ13_numberOfTrailingZeros_38 : decode cJ13_numberOfTrailingZeros 38 = .ok (.if_icmp .le 11, 3) := dk_164 0 11 (dk_at dksJ13_numberOfTrailingZeros_1 15 rfl rfl)
theorem dJ13_numberOfTrailingZeros_41 : decode cJ13_numberOfTrailingZeros 41 = .ok (.iinc 1 8, 3) := dk_132 1 8 (dk_at dksJ13_numberOfTrailingZeros_1 18 rfl rfl)
theorem dJ13_numberOfTrailingZeros_44 : decode cJ13_numberOfTrailingZeros 44 = .ok (.iload_n 0, 1) := dk_26 (dk_at dksJ13_numberOfTrailingZeros_1 21 rfl rfl)
theorem dJ13_numberOfTrailingZeros_45 : decode cJ13_numberOfTrailingZeros 45 = .ok (.bipush 8, 2) := dk_16 8 (dk_at dksJ13_numberOfTrailingZeros_1 22 rfl rfl)
theorem dJ13_numberOfTrailingZeros_47 : decode cJ13_numberOfTrailingZeros 47 = .ok (.iushr, 1) := dk_124 (dk_at dksJ13_numberOfTrailingZeros_2 0 rfl rfl)
theorem dJ13_numberOfTrailingZeros_48 : decode cJ13_numberOfTrailingZeros 48 = .ok (.istore_n 0, 1) := dk_59 (dk_at dksJ13_numberOfTrailingZeros_2 1 rfl rfl)
theorem dJ13_numberOfTrailingZeros_49 : decode cJ13_numberOfTrailingZeros 49 = .ok (.iload_n 0, 1) := dk_26 (dk_at dksJ13_numberOfTrailingZeros_2 2 rfl rfl)
theorem dJ13_numberOfTrailingZeros_50 : decode cJ13_numberOfTrailingZeros 50 = .ok (.bipush 16, 2) := dk_16 16 (dk_at dksJ13_numberOfTrailingZeros_2 3 rfl rfl)
theorem dJ13_numberOfTrailingZeros_52 : decode cJ13_numberOfTrailingZeros 52 = .ok (.if_icmp .le 10, 3) := dk_164 0 10 (dk_at dksJ13_numberOfTrailingZeros_2 5 rfl rfl)
theorem dJ13_numberOfTrailingZeros_55 : decode cJ13_numberOfTrailingZeros 55 = .ok (.iinc 1 4, 3) := dk_132 1 4 (dk_at dksJ13_numberOfTrailingZeros_2 8 rfl rfl)
theorem dJ13_numberOfTrailingZeros_58 : decode cJ13_numberOfTrailingZeros 58 = .ok (.iload_n 0, 1) := dk_26 (dk_at dksJ13_numberOfTrailingZeros_2 11 rfl rfl)
theorem dJ13_numberOfTrailingZeros_59 : decode cJ13_numberOfTrailingZeros 59 = .ok (.iconst 4, 1) := dk_7 (dk_at dksJ13_numberOfTrailingZeros_2 12 rfl rfl)
theorem dJ13_numberOfTrailingZeros_60 : decode cJ13_numberOfTrailingZeros 60 = .ok (.iushr, 1) := dk_124 (dk_at dksJ13_numberOfTrailingZeros_2 13 rfl rfl)
theorem dJ13_numberOfTrailingZeros_61 : decode cJ13_numberOfTrailingZeros 61 = .ok (.istore_n 0, 1) := dk_59 (dk_at dksJ13_numberOfTrailingZeros_2 14 rfl rfl)
theorem dJ13_numberOfTrailingZeros_62 : decode cJ13_numberOfTrailingZeros 62 = .ok (.iload_n 0, 1) := dk_26 (dk_at dksJ13_numberOfTrailingZeros_2 15 rfl rfl)
theorem dJ13_numberOfTrailingZeros_63 : decode cJ13_numberOfTrailingZeros 63 = .ok (.iconst 4, 1) := dk_7 (dk_at dksJ13_numberOfTrailingZeros_2 16 rfl rfl)
theorem dJ13_numberOfTrailingZeros_64 : decode cJ13_numberOfTrailingZeros 64 = .ok (.if_icmp .le 10, 3) := dk_164 0 10 (dk_at dksJ13_numberOfTrailingZeros_2 17 rfl rfl)
theorem dJ13_numberOfTrailingZeros_67 : decode cJ13_numberOfTrailingZeros 67 = .ok (.iinc 1 2, 3) := dk_132 1 2 (dk_at dksJ13_numberOfTrailingZeros_2 20 rfl rfl)
theorem dJ13_numberOfTrailingZeros_70 : decode cJ13_numberOfTrailingZeros 70 = .ok (.iload_n 0, 1) := dk_26 (dk_at dksJ13_numberOfTrailingZeros_2 23 rfl rfl)
theorem dJ13_numberOfTrailingZeros_71 : decode cJ13_numberOfTrailingZeros 71 = .ok (.iconst 2, 1) := dk_5 (dk_at dksJ13_numberOfTrailingZeros_3 0 rfl rfl)
theorem dJ13_numberOfTrailingZeros_72 : decode cJ13_numberOfTrailingZeros 72 = .ok (.iushr, 1) := dk_124 (dk_at dksJ13_numberOfTrailingZeros_3 1 rfl rfl)
theorem dJ13_numberOfTrailingZeros_73 : decode cJ13_numberOfTrailingZeros 73 = .ok (.istore_n 0, 1) := dk_59 (dk_at dksJ13_numberOfTrailingZeros_3 2 rfl rfl)
theorem dJ13_numberOfTrailingZeros_74 : decode cJ13_numberOfTrailingZeros 74 = .ok (.iload_n 1, 1) := dk_27 (dk_at dksJ13_numberOfTrailingZeros_3 3 rfl rfl)
theorem dJ13_numberOfTrailingZeros_75 : decode cJ13_numberOfTrailingZeros 75 = .ok (.iload_n 0, 1) := dk_26 (dk_at dksJ13_numberOfTrailingZeros_3 4 rfl rfl)
theorem dJ13_numberOfTrailingZeros_76 : decode cJ13_numberOfTrailingZeros 76 = .ok (.iconst 1, 1) := dk_4 (dk_at dksJ13_numberOfTrailingZeros_3 5 rfl rfl)
theorem dJ13_numberOfTrailingZeros_77 : decode cJ13_numberOfTrailingZeros 77 = .ok (.iushr, 1) := dk_124 (dk_at dksJ13_numberOfTrailingZeros_3 6 rfl rfl)
theorem dJ13_numberOfTrailingZeros_78 : decode cJ13_numberOfTrailingZeros 78 = .ok (.iadd, 1) := dk_96 (dk_at dksJ13_numberOfTrailingZeros_3 7 rfl rfl)
theorem dJ13_numberOfTrailingZeros_79 : decode cJ13_numberOfTrailingZeros 79 = .ok (.ireturn, 1) := dk_172 (dk_at dksJ13_numberOfTrailingZeros_3 8 rfl rfl)
def dkwJ13_numberOfLeadingZeros_3 : List UInt8 := [5, 124, 59, 27, 26, 4, 124, 100, 172]
abbrev dktJ13_numberOfLeadingZeros_3 : List UInt8 := dkwJ13_numberOfLeadingZeros_3 ++ []
def dkwJ13_numberOfLeadingZeros_2 : List UInt8 := [124, 59, 26, 16, 16, 161, 0, 10, 132, 1, 252, 26, 7, 124, 59, 26, 7, 161, 0, 10, 132, 1, 254, 26]
abbrev dktJ13_numberOfLeadingZeros_2 : List UInt8 := dkwJ13_numberOfLeadingZeros_2 ++ dktJ13_numberOfLeadingZeros_3
def dkwJ13_numberOfLeadingZeros_1 : List UInt8 := [161, 0, 11, 132, 1, 240, 26, 16, 16, 124, 59, 26, 17, 1, 0, 161, 0, 11, 132, 1, 248, 26, 16, 8]
abbrev dktJ13_numberOfLeadingZeros_1 : List UInt8 := dkwJ13_numberOfLeadingZeros_1 ++ dktJ13_numberOfLeadingZeros_2
def dkwJ13_numberOfLeadingZeros_0 : List UInt8 := [26, 157, 0, 14, 26, 154, 0, 8, 16, 32, 167, 0, 4, 3, 172, 16, 31, 60, 26, 19, 1, 8]
abbrev dktJ13_numberOfLeadingZeros_0 : List UInt8 := dkwJ13_numberOfLeadingZeros_0 ++ dktJ13_numberOfLeadingZeros_1
theorem dksJ13_numberOfLeadingZeros_0 : cJ13_numberOfLeadingZeros.data.toList.drop 0 = dktJ13_numberOfLeadingZeros_0 := by decide +kernel
theorem dksJ13_numberOfLeadingZeros_1 : cJ13_numberOfLeadingZeros.data.toList.drop 22 = dktJ13_numberOfLeadingZeros_1 := dk_seg dksJ13_numberOfLeadingZeros_0 22 rfl rfl
theorem dksJ13_numberOfLeadingZeros_2 : cJ13_numberOfLeadingZeros.data.toList.drop 46 = dktJ13_numberOfLeadingZeros_2 := dk_seg dksJ13_numberOfLeadingZeros_1 24 rfl rfl
theorem dksJ13_numberOfLeadingZeros_3 : cJ13_numberOfLeadingZeros.data.toList.drop 70 = dktJ13_numberOfLeadingZeros_3 := dk_seg dksJ13_numberOfLeadingZeros_2 24 rfl rfl
theorem dJ13_numberOfLeadingZeros_0 : decode cJ13_numberOfLeadingZeros 0 = .ok (.iload_n 0, 1) := dk_26 (dk_at dksJ13_numberOfLeadingZeros_0 0 rfl rfl)
theorem dJ13_numberOfLeadingZeros_1 : decode cJ13_numberOfLeadingZeros 1 = .ok (.ifCond .gt 14, 3) := dk_157 0 14 (dk_at dksJ13_numberOfLeadingZeros_0 1 rfl rfl)
theorem dJ13_numberOfLeadingZeros_4 : decode cJ13_numberOfLeadingZeros 4 = .ok (.iload_n 0, 1) := dk_26 (dk_at dksJ13_numberOfLeadingZeros_0 4 rfl rfl)
theorem dJ13_numberOfLeadingZeros_5 : decode cJ13_numberOfLeadingZeros 5 = .ok (.ifCond .ne 8, 3) := dk_154 0 8 (dk_at dksJ13_numberOfLeadingZeros_0 5 rfl rfl)
theorem dJ13_numberOfLeadingZeros_8 : decode cJ13_numberOfLeadingZeros 8 = .ok (.bipush 32, 2) := dk_16 32 (dk_at dksJ13_numberOfLeadingZeros_0 8 rfl rfl)
theorem dJ13_numberOfLeadingZeros_10 : decode cJ13_numberOfLeadingZeros 10 = .ok (.goto 4, 3) := dk_167 0 4 (dk_at dksJ13_numberOfLeadingZeros_0 10 rfl rfl)
theorem dJ13_numberOfLeadingZeros_13 : decode cJ13_numberOfLeadingZeros 13 = .ok (.iconst 0, 1) := dk_3 (dk_at dksJ13_numberOfLeadingZeros_0 13 rfl rfl)
theorem dJ13_numberOfLeadingZeros_14 : decode cJ13_numberOfLeadingZeros 14 = .ok (.ireturn, 1) := dk_172 (dk_at dksJ13_numberOfLeadingZeros_0 14 rfl rfl)
theorem dJ13_numberOfLeadingZeros_15 : decode cJ13_numberOfLeadingZeros 15 = .ok (.bipush 31, 2) := dk_16 31 (dk_at dksJ13_numberOfLeadingZeros_0 15 rfl rfl)
theorem dJ13_numberOfLeadingZeros_17 : decode cJ13_numberOfLeadingZeros 17 = .ok (.istore_n 1, 1) := dk_60 (dk_at dksJ13_numberOfLeadingZeros_0 17 rfl rfl)
theorem dJ13_numberOfLeadingZeros_18 : decode cJ13_numberOfLeadingZeros 18 = .ok (.iload_n 0, 1) := dk_26 (dk_at dksJ13_numberOfLeadingZeros_0 18 rfl rfl)
theorem dJ13_numberOfLeadingZeros_19 : decode cJ13_numberOfLeadingZeros 19 = .ok (.ldc_w 264, 3) := dk_19 1 8 (dk_at dksJ13_numberOfLeadingZeros_0 19 rfl rfl)
theorem dJ13_numberOfLeadingZeros_22 : decode cJ13_numberOfLeadingZeros 22 = .ok (.if_icmp .lt 11, 3) := dk_161 0 11 (dk_at dksJ13_numberOfLeadingZeros_1 0 rfl rfl)
theorem dJ13_numberOfLeadingZeros_25 : decode cJ13_numberOfLeadingZeros 25 = .ok (.iinc 1 (-16), 3) := dk_132 1 240 (dk_at dksJ13_numberOfLeadingZeros_1 3 rfl rfl)
theorem dJ13_numberOfLeadingZeros_28 : decode cJ13_numberOfLeadingZeros 28 = .ok (.iload_n 0, 1) := dk_26 (dk_at dksJ13_numberOfLeadingZeros_1 6 rfl rfl)
theorem dJ13_numberOfLeadingZeros_29 : decode cJ13_numberOfLeadingZeros 29 = .ok (.bipush 16, 2) := dk_16 16 (dk_at dksJ13_numberOfLeadingZeros_1 7 rfl rfl)
theorem dJ13_numberOfLeadingZeros_31 : decode cJ13_numberOfLeadingZeros 31 = .ok (.iushr, 1) := dk_124 (dk_at dksJ13_numberOfLeadingZeros_1 9 rfl rfl)
theorem dJ13_numberOfLeadingZeros_32 : decode cJ13_numberOfLeadingZeros 32 = .ok (.istore_n 0, 1) := dk_59 (dk_at dksJ13_numberOfLeadingZeros_1 10 rfl rfl)
theorem dJ13_numberOfLeadingZeros_33 : decode cJ13_numberOfLeadingZeros 33 = .ok (.iload_n 0, 1) := dk_26 (dk_at dksJ13_numberOfLeadingZeros_1 11 rfl rfl)
theorem dJ13_numberOfLeadingZeros_34 : decode cJ13_numberOfLeadingZeros 34 = .ok (.sipush 256, 3) := dk_17 1 0 (dk_at dksJ13_numberOfLeadingZeros_1 12 rfl rfl)
theorem dJ13_numberOfLeadingZeros_37 : decode cJ13_numberOfLeadingZeros 37 = .ok (.if_icmp .lt 11, 3) := dk_161 0 11 (dk_at dksJ13_numberOfLeadingZeros_1 15 rfl rfl)
theorem dJ13_numberOfLeadingZeros_40 : decode cJ13_numberOfLeadingZeros 40 = .ok (.iinc 1 (-8), 3) := dk_132 1 248 (dk_at dksJ13_numberOfLeadingZeros_1 18 rfl rfl)
theorem dJ13_numberOfLeadingZeros_43 : decode cJ13_numberOfLeadingZeros 43 = .ok (.iload_n 0, 1) := dk_26 (dk_at dksJ13_numberOfLeadingZeros_1 21 rfl rfl)
theorem dJ13_numberOfLeadingZeros_44 : decode cJ13_numberOfLeadingZeros 44 = .ok (.bipush 8, 2) := dk_16 8 (dk_at dksJ13_numberOfLeadingZeros_1 22 rfl rfl)
theorem dJ13_numberOfLeadingZeros_46 : decode cJ13_numberOfLeadingZeros 46 = .ok (.iushr, 1) := dk_124 (dk_at dksJ13_numberOfLeadingZeros_2 0 rfl rfl)
theorem dJ13_numberOfLeadingZeros_47 : decode cJ13_numberOfLeadingZeros 47 = .ok (.istore_n 0, 1) := dk_59 (dk_at dksJ13_numberOfLeadingZeros_2 1 rfl rfl)
theorem dJ13_numberOfLeadingZeros_48 : decode cJ13_numberOfLeadingZeros 48 = .ok (.iload_n 0, 1) := dk_26 (dk_at dksJ13_numberOfLeadingZeros_2 2 rfl rfl)
theorem dJ13_numberOfLeadingZeros_49 : decode cJ13_numberOfLeadingZeros 49 = .ok (.bipush 16, 2) := dk_16 16 (dk_at dksJ13_numberOfLeadingZeros_2 3 rfl rfl)
theorem dJ13_numberOfLeadingZeros_51 : decode cJ13_numberOfLeadingZeros 51 = .ok (.if_icmp .lt 10, 3) := dk_161 0 10 (dk_at dksJ13_numberOfLeadingZeros_2 5 rfl rfl)
theorem dJ13_numberOfLeadingZeros_54 : decode cJ13_numberOfLeadingZeros 54 = .ok (.iinc 1 (-4), 3) := dk_132 1 252 (dk_at dksJ13_numberOfLeadingZeros_2 8 rfl rfl)
theorem dJ13_numberOfLeadingZeros_57 : decode cJ13_numberOfLeadingZeros 57 = .ok (.iload_n 0, 1) := dk_26 (dk_at dksJ13_numberOfLeadingZeros_2 11 rfl rfl)
theorem dJ13_numberOfLeadingZeros_58 : decode cJ13_numberOfLeadingZeros 58 = .ok (.iconst 4, 1) := dk_7 (dk_at dksJ13_numberOfLeadingZeros_2 12 rfl rfl)
theorem dJ13_numberOfLeadingZeros_59 : decode cJ13_numberOfLeadingZeros 59 = .ok (.iushr, 1) := dk_124 (dk_at dksJ13_numberOfLeadingZeros_2 13 rfl rfl)
theorem dJ13_numberOfLeadingZeros_60 : decode cJ13_numberOfLeadingZeros 60 = .ok (.istore_n 0, 1) := dk_59 (dk_at dksJ13_numberOfLeadingZeros_2 14 rfl rfl)
theorem dJ13_numberOfLeadingZeros_61 : decode cJ13_numberOfLeadingZeros 61 = .ok (.iload_n 0, 1) := dk_26 (dk_at dksJ13_numberOfLeadingZeros_2 15 rfl rfl)
theorem dJ13_numberOfLeadingZeros_62 : decode cJ13_numberOfLeadingZeros 62 = .ok (.iconst 4, 1) := dk_7 (dk_at dksJ13_numberOfLeadingZeros_2 16 rfl rfl)
theorem dJ13_numberOfLeadingZeros_63 : decode cJ13_numberOfLeadingZeros 63 = .ok (.if_icmp .lt 10, 3) := dk_161 0 10 (dk_at dksJ13_numberOfLeadingZeros_2 17 rfl rfl)
theorem dJ13_numberOfLeadingZeros_66 : decode cJ13_numberOfLeadingZeros 66 = .ok (.iinc 1 (-2), 3) := dk_132 1 254 (dk_at dksJ13_numberOfLeadingZeros_2 20 rfl rfl)
theorem dJ13_numberOfLeadingZeros_69 : decode cJ13_numberOfLeadingZeros 69 = .ok (.iload_n 0, 1) := dk_26 (dk_at dksJ13_numberOfLeadingZeros_2 23 rfl rfl)
theorem dJ13_numberOfLeadingZeros_70 : decode cJ13_numberOfLeadingZeros 70 = .ok (.iconst 2, 1) := dk_5 (dk_at dksJ13_numberOfLeadingZeros_3 0 rfl rfl)
theorem dJ13_numberOfLeadingZeros_71 : decode cJ13_numberOfLeadingZeros 71 = .ok (.iushr, 1) := dk_124 (dk_at dksJ13_numberOfLeadingZeros_3 1 rfl rfl)
theorem dJ13_numberOfLeadingZeros_72 : decode cJ13_numberOfLeadingZeros 72 = .ok (.istore_n 0, 1) := dk_59 (dk_at dksJ13_numberOfLeadingZeros_3 2 rfl rfl)
theorem dJ13_numberOfLeadingZeros_73 : decode cJ13_numberOfLeadingZeros 73 = .ok (.iload_n 1, 1) := dk_27 (dk_at dksJ13_numberOfLeadingZeros_3 3 rfl rfl)
theorem dJ13_numberOfLeadingZeros_74 : decode cJ13_numberOfLeadingZeros 74 = .ok (.iload_n 0, 1) := dk_26 (dk_at dksJ13_numberOfLeadingZeros_3 4 rfl rfl)
theorem dJ13_numberOfLeadingZeros_75 : decode cJ13_numberOfLeadingZeros 75 = .ok (.iconst 1, 1) := dk_4 (dk_at dksJ13_numberOfLeadingZeros_3 5 rfl rfl)
theorem dJ13_numberOfLeadingZeros_76 : decode cJ13_numberOfLeadingZeros 76 = .ok (.iushr, 1) := dk_124 (dk_at dksJ13_numberOfLeadingZeros_3 6 rfl rfl)
theorem dJ13_numberOfLeadingZeros_77 : decode cJ13_numberOfLeadingZeros 77 = .ok (.isub, 1) := dk_100 (dk_at dksJ13_numberOfLeadingZeros_3 7 rfl rfl)
theorem dJ13_numberOfLeadingZeros_78 : decode cJ13_numberOfLeadingZeros 78 = .ok (.ireturn, 1) := dk_172 (dk_at dksJ13_numberOfLeadingZeros_3 8 rfl rfl)
def dkwJ13_bitCount_2 : List UInt8 := [26, 16, 63, 126, 172]
abbrev dktJ13_bitCount_2 : List UInt8 := dkwJ13_bitCount_2 ++ []
def dkwJ13_bitCount_1 : List UInt8 := [26, 26, 7, 124, 96, 19, 1, 11, 126, 59, 26, 26, 16, 8, 124, 96, 59, 26, 26, 16, 16, 124, 96, 59]
abbrev dktJ13_bitCount_1 : List UInt8 := dkwJ13_bitCount_1 ++ dktJ13_bitCount_2
def dkwJ13_bitCount_0 : List UInt8 := [26, 26, 4, 124, 19, 1, 9, 126, 100, 59, 26, 19, 1, 10, 126, 26, 5, 124, 19, 1, 10, 126, 96, 59]
abbrev dktJ13_bitCount_0 : List UInt8 := dkwJ13_bitCount_0 ++ dktJ13_bitCount_1
theorem dksJ13_bitCount_0 : cJ13_bitCount.data.toList.drop 0 = dktJ13_bitCount_0 := by decide +kernel
theorem dksJ13_bitCount_1 : cJ13_bitCount.data.toList.drop 24 = dktJ13_bitCount_1 := dk_seg dksJ13_bitCount_0 24 rfl rfl
theorem dksJ13_bitCount_2 : cJ13_bitCount.data.toList.drop 48 = dktJ13_bitCount_2 := dk_seg dksJ13_bitCount_1 24 rfl rfl
theorem dJ13_bitCount_0 : decode cJ13_bitCount 0 = .ok (.iload_n 0, 1) := dk_26 (dk_at dksJ13_bitCount_0 0 rfl rfl)
theorem dJ13_bitCount_1 : decode cJ13_bitCount 1 = .ok (.iload_n 0, 1) := dk_26 (dk_at dksJ13_bitCount_0 1 rfl rfl)
theorem dJ13_bitCount_2 : decode cJ13_bitCount 2 = .ok (.iconst 1, 1) := dk_4 (dk_at dksJ13_bitCount_0 2 rfl rfl)
theorem dJ13_bitCount_3 : decode cJ13_bitCount 3 = .ok (.iushr, 1) := dk_124 (dk_at dksJ13_bitCount_0 3 rfl rfl)
theorem dJ13_bitCount_4 : decode cJ13_bitCount 4 = .ok (.ldc_w 265, 3) := dk_19 1 9 (dk_at dksJ13_bitCount_0 4 rfl rfl)
theorem dJ13_bitCount_7 : decode cJ13_bitCount 7 = .ok (.iand, 1) := dk_126 (dk_at dksJ13_bitCount_0 7 rfl rfl)
theorem dJ13_bitCount_8 : decode cJ13_bitCount 8 = .ok (.isub, 1) := dk_100 (dk_at dksJ13_bitCount_0 8 rfl rfl)
theorem dJ13_bitCount_9 : decode cJ13_bitCount 9 = .ok (.istore_n 0, 1) := dk_59 (dk_at dksJ13_bitCount_0 9 rfl rfl)
theorem dJ13_bitCount_10 : decode cJ13_bitCount 10 = .ok (.iload_n 0, 1) := dk_26 (dk_at dksJ13_bitCount_0 10 rfl rfl)
theorem dJ13_bitCount_11 : decode cJ13_bitCount 11 = .ok (.ldc_w 266, 3) := dk_19 1 10 (dk_at dksJ13_bitCount_0 11 rfl rfl)
theorem dJ13_bitCount_14 : decode cJ13_bitCount 14 = .ok (.iand, 1) := dk_126 (dk_at dksJ13_bitCount_0 14 rfl rfl)
theorem dJ13_bitCount_15 : decode cJ13_bitCount 15 = .ok (.iload_n 0, 1) := dk_26 (dk_at dksJ13_bitCount_0 15 rfl rfl)
theorem dJ13_bitCount_16 : decode cJ13_bitCount 16 = .ok (.iconst 2, 1) := dk_5 (dk_at dksJ13_bitCount_0 16 rfl rfl)
theorem dJ13_bitCount_17 : decode cJ13_bitCount 17 = .ok (.iushr, 1) := dk_124 (dk_at dksJ13_bitCount_0 17 rfl rfl)
theorem dJ13_bitCount_18 : decode cJ13_bitCount 18 = .ok (.ldc_w 266, 3) := dk_19 1 10 (dk_at dksJ13_bitCount_0 18 rfl rfl)
theorem dJ13_bitCount_21 : decode cJ13_bitCount 21 = .ok (.iand, 1) := dk_126 (dk_at dksJ13_bitCount_0 21 rfl rfl)
theorem dJ13_bitCount_22 : decode cJ13_bitCount 22 = .ok (.iadd, 1) := dk_96 (dk_at dksJ13_bitCount_0 22 rfl rfl)
theorem dJ13_bitCount_23 : decode cJ13_bitCount 23 = .ok (.istore_n 0, 1) := dk_59 (dk_at dksJ13_bitCount_0 23 rfl rfl)
theorem dJ13_bitCount_24 : decode cJ13_bitCount 24 = .ok (.iload_n 0, 1) := dk_26 (dk_at dksJ13_bitCount_1 0 rfl rfl)
theorem dJ13_bitCount_25 : decode cJ13_bitCount 25 = .ok (.iload_n 0, 1) := dk_26 (dk_at dksJ13_bitCount_1 1 rfl rfl)
theorem dJ13_bitCount_26 : decode cJ13_bitCount 26 = .ok (.iconst 4, 1) := dk_7 (dk_at dksJ13_bitCount_1 2 rfl rfl)
theorem dJ13_bitCount_27 : decode cJ13_bitCount 27 = .ok (.iushr, 1) := dk_124 (dk_at dksJ13_bitCount_1 3 rfl rfl)
theorem dJ13_bitCount_28 : decode cJ13_bitCount 28 = .ok (.iadd, 1) := dk_96 (dk_at dksJ13_bitCount_1 4 rfl rfl)
theorem dJ13_bitCount_29 : decode cJ13_bitCount 29 = .ok (.ldc_w 267, 3) := dk_19 1 11 (dk_at dksJ13_bitCount_1 5 rfl rfl)
theorem dJ13_bitCount_32 : decode cJ13_bitCount 32 = .ok (.iand, 1) := dk_126 (dk_at dksJ13_bitCount_1 8 rfl rfl)
theorem dJ13_bitCount_33 : decode cJ13_bitCount 33 = .ok (.istore_n 0, 1) := dk_59 (dk_at dksJ13_bitCount_1 9 rfl rfl)
theorem dJ13_bitCount_34 : decode cJ13_bitCount 34 = .ok (.iload_n 0, 1) := dk_26 (dk_at dksJ13_bitCount_1 10 rfl rfl)
theorem dJ13_bitCount_35 : decode cJ13_bitCount 35 = .ok (.iload_n 0, 1) := dk_26 (dk_at dksJ13_bitCount_1 11 rfl rfl)
theorem dJ13_bitCount_36 : decode cJ13_bitCount 36 = .ok (.bipush 8, 2) := dk_16 8 (dk_at dksJ13_bitCount_1 12 rfl rfl)
theorem dJ13_bitCount_38 : decode cJ13_bitCount 38 = .ok (.iushr, 1) := dk_124 (dk_at dksJ13_bitCount_1 14 rfl rfl)
theorem dJ13_bitCount_39 : decode cJ13_bitCount 39 = .ok (.iadd, 1) := dk_96 (dk_at dksJ13_bitCount_1 15 rfl rfl)
theorem dJ13_bitCount_40 : decode cJ13_bitCount 40 = .ok (.istore_n 0, 1) := dk_59 (dk_at dksJ13_bitCount_1 16 rfl rfl)
theorem dJ13_bitCount_41 : decode cJ13_bitCount 41 = .ok (.iload_n 0, 1) := dk_26 (dk_at dksJ13_bitCount_1 17 rfl rfl)
theorem dJ13_bitCount_42 : decode cJ13_bitCount 42 = .ok (.iload_n 0, 1) := dk_26 (dk_at dksJ13_bitCount_1 18 rfl rfl)
theorem dJ13_bitCount_43 : decode cJ13_bitCount 43 = .ok (.bipush 16, 2) := dk_16 16 (dk_at dksJ13_bitCount_1 19 rfl rfl)
theorem dJ13_bitCount_45 : decode cJ13_bitCount 45 = .ok (.iushr, 1) := dk_124 (dk_at dksJ13_bitCount_1 21 rfl rfl)
theorem dJ13_bitCount_46 : decode cJ13_bitCount 46 = .ok (.iadd, 1) := dk_96 (dk_at dksJ13_bitCount_1 22 rfl rfl)
theorem dJ13_bitCount_47 : decode cJ13_bitCount 47 = .ok (.istore_n 0, 1) := dk_59 (dk_at dksJ13_bitCount_1 23 rfl rfl)
theorem dJ13_bitCount_48 : decode cJ13_bitCount 48 = .ok (.iload_n 0, 1) := dk_26 (dk_at dksJ13_bitCount_2 0 rfl rfl)
theorem dJ13_bitCount_49 : decode cJ13_bitCount 49 = .ok (.bipush 63, 2) := dk_16 63 (dk_at dksJ13_bitCount_2 1 rfl rfl)
theorem dJ13_bitCount_51 : decode cJ13_bitCount 51 = .ok (.iand, 1) := dk_126 (dk_at dksJ13_bitCount_2 3 rfl rfl)
theorem dJ13_bitCount_52 : decode cJ13_bitCount 52 = .ok (.ireturn, 1) := dk_172 (dk_at dksJ13_bitCount_2 4 rfl rfl)
def dkwJ14_copyOfRange_3 : List UInt8 := [58, 5, 42, 27, 25, 5, 3, 42, 190, 27, 100, 21, 4, 184, 1, 48, 184, 0, 150, 25, 5, 176]
abbrev dktJ14_copyOfRange_3 : List UInt8 := dkwJ14_copyOfRange_3 ++ []
def dkwJ14_copyOfRange_2 : List UInt8 := [166, 0, 11, 21, 4, 189, 0, 2, 167, 0, 15, 45, 182, 0, 90, 21, 4, 184, 0, 95, 192, 0, 110]
abbrev dktJ14_copyOfRange_2 : List UInt8 := dkwJ14_copyOfRange_2 ++ dktJ14_copyOfRange_3
def dkwJ14_copyOfRange_1 : List UInt8 := [182, 0, 54, 19, 1, 81, 182, 0, 50, 28, 182, 0, 54, 182, 0, 61, 183, 0, 65, 191, 45, 18, 110]
abbrev dktJ14_copyOfRange_1 : List UInt8 := dkwJ14_copyOfRange_1 ++ dktJ14_copyOfRange_2
def dkwJ14_copyOfRange_0 : List UInt8 := [28, 27, 100, 54, 4, 21, 4, 156, 0, 35, 187, 0, 43, 89, 187, 0, 45, 89, 183, 0, 47, 27]
abbrev dktJ14_copyOfRange_0 : List UInt8 := dkwJ14_copyOfRange_0 ++ dktJ14_copyOfRange_1
theorem dksJ14_copyOfRange_0 : cJ14_copyOfRange.data.toList.drop 0 = dktJ14_copyOfRange_0 := by decide +kernel
theorem dksJ14_copyOfRange_1 : cJ14_copyOfRange.data.toList.drop 22 = dktJ14_copyOfRange_1 := dk_seg dksJ14_copyOfRange_0 22 rfl rfl
theorem dksJ14_copyOfRange_2 : cJ14_copyOfRange.data.toList.drop 45 = dktJ14_copyOfRange_2 := dk_seg dksJ14_copyOfRange_1 23 rfl rfl
theorem dksJ14_copyOfRange_3 : cJ14_copyOfRange.data.toList.drop 68 = dktJ14_copyOfRange_3 := dk_seg dksJ14_copyOfRange_2 23 rfl rfl
theorem dJ14_copyOfRange_0 : decode cJ14_copyOfRange 0 = .ok (.iload_n 2, 1) := dk_28 (dk_at dksJ14_copyOfRange_0 0 rfl rfl)
theorem dJ14_copyOfRange_1 : decode cJ14_copyOfRange 1 = .ok (.iload_n 1, 1) := dk_27 (dk_at dksJ14_copyOfRange_0 1 rfl rfl)
theorem dJ14_copyOfRange_2 : decode cJ14_copyOfRange 2 = .ok (.isub, 1) := dk_100 (dk_at dksJ14_copyOfRange_0 2 rfl rfl)
theorem dJ14_copyOfRange_3 : decode cJ14_copyOfRange 3 = .ok (.istore 4, 2) := dk_54 4 (dk_at dksJ14_copyOfRange_0 3 rfl rfl)
theorem dJ14_copyOfRange_5 : decode cJ14_copyOfRange 5 = .ok (.iload 4, 2) := dk_21 4 (dk_at dksJ14_copyOfRange_0 5 rfl rfl)
theorem dJ14_copyOfRange_7 : decode cJ14_copyOfRange 7 = .ok (.ifCond .ge 35, 3) := dk_156 0 35 (dk_at dksJ14_copyOfRange_0 7 rfl rfl)
theorem dJ14_copyOfRange_10 : decode cJ14_copyOfRange 10 = .ok (.new 43, 3) := dk_187 0 43 (dk_at dksJ14_copyOfRange_0 10 rfl rfl)
theorem dJ14_copyOfRange_13 : decode cJ14_copyOfRange 13 = .ok (.dup, 1) := dk_89 (dk_at dksJ14_copyOfRange_0 13 rfl rfl)
theorem dJ14_copyOfRange_14 : decode cJ14_copyOfRange 14 = .ok (.new 45, 3) := dk_187 0 45 (dk_at dksJ14_copyOfRange_0 14 rfl rfl)
theorem dJ14_copyOfRange_17 : decode cJ14_copyOfRange 17 = .ok (.dup, 1) := dk_89 (dk_at dksJ14_copyOfRange_0 17 rfl rfl)
theorem dJ14_copyOfRange_18 : decode cJ14_copyOfRange 18 = .ok (.invokespecial 47, 3) := dk_183 0 47 (dk_at dksJ14_copyOfRange_0 18 rfl rfl)
theorem dJ14_copyOfRange_21 : decode cJ14_copyOfRange 21 = .ok (.iload_n 1, 1) := dk_27 (dk_at dksJ14_copyOfRange_0 21 rfl rfl)
theorem dJ14_copyOfRange_22 : decode cJ14_copyOfRange 22 = .ok (.invokevirtual 54, 3) := dk_182 0 54 (dk_at dksJ14_copyOfRange_1 0 rfl rfl)
theorem dJ14_copyOfRange_25 : decode cJ14_copyOfRange 25 = .ok (.ldc_w 337, 3) := dk_19 1 81 (dk_at dksJ14_copyOfRange_1 3 rfl rfl)
theorem dJ14_copyOfRange_28 : decode cJ14_copyOfRange 28 = .ok (.invokevirtual 50, 3) := dk_182 0 50 (dk_at dksJ14_copyOfRange_1 6 rfl rfl)
theorem dJ14_copyOfRange_31 : decode cJ14_copyOfRange 31 = .ok (.iload_n 2, 1) := dk_28 (dk_at dksJ14_copyOfRange_1 9 rfl rfl)
theorem dJ14_copyOfRange_32 : decode cJ14_copyOfRange 32 = .ok (.invokevirtual 54, 3) := dk_182 0 54 (dk_at dksJ14_copyOfRange_1 10 rfl rfl)
theorem dJ14_copyOfRange_35 : decode cJ14_copyOfRange 35 = .ok (.invokevirtual 61, 3) := dk_182 0 61 (dk_at dksJ14_copyOfRange_1 13 rfl rfl)
theorem dJ14_copyOfRange_38 : decode cJ14_copyOfRange 38 = .ok (.invokespecial 65, 3) := dk_183 0 65 (dk_at dksJ14_copyOfRange_1 16 rfl rfl)
theorem dJ14_copyOfRange_41 : decode cJ14_copyOfRange 41 = .ok (.athrow, 1) := dk_191 (dk_at dksJ14_copyOfRange_1 19 rfl rfl)
theorem dJ14_copyOfRange_42 : decode cJ14_copyOfRange 42 = .ok (.aload_n 3, 1) := dk_45 (dk_at dksJ14_copyOfRange_1 20 rfl rfl)
theorem dJ14_copyOfRange_43 : decode cJ14_copyOfRange 43 = .ok (.ldc 110, 2) := dk_18 110 (dk_at dksJ14_copyOfRange_1 21 rfl rfl)
theorem dJ14_copyOfRange_45 : decode cJ14_copyOfRange 45 = .ok (.if_acmp .ne 11, 3) := dk_166 0 11 (dk_at dksJ14_copyOfRange_2 0 rfl rfl)
theorem dJ14_copyOfRange_48 : decode cJ14_copyOfRange 48 = .ok (.iload 4, 2) := dk_21 4 (dk_at dksJ14_copyOfRange_2 3 rfl rfl)
theorem dJ14_copyOfRange_50 : decode cJ14_copyOfRange 50 = .ok (.anewarray 2, 3) := dk_189 0 2 (dk_at dksJ14_copyOfRange_2 5 rfl rfl)
theorem dJ14_copyOfRange_53 : decode cJ14_copyOfRange 53 = .ok (.goto 15, 3) := dk_167 0 15 (dk_at dksJ14_copyOfRange_2 8 rfl rfl)
theorem dJ14_copyOfRange_56 : decode cJ14_copyOfRange 56 = .ok (.aload_n 3, 1) := dk_45 (dk_at dksJ14_copyOfRange_2 11 rfl rfl)
theorem dJ14_copyOfRange_57 : decode cJ14_copyOfRange 57 = .ok (.invokevirtual 90, 3) := dk_182 0 90 (dk_at dksJ14_copyOfRange_2 12 rfl rfl)
theorem dJ14_copyOfRange_60 : decode cJ14_copyOfRange 60 = .ok (.iload 4, 2) := dk_21 4 (dk_at dksJ14_copyOfRange_2 15 rfl rfl)
theorem dJ14_copyOfRange_62 : decode cJ14_copyOfRange 62 = .ok (.invokestatic 95, 3) := dk_184 0 95 (dk_at dksJ14_copyOfRange_2 17 rfl rfl)
theorem dJ14_copyOfRange_65 : decode cJ14_copyOfRange 65 = .ok (.checkcast 110, 3) := dk_192 0 110 (dk_at dksJ14_copyOfRange_2 20 rfl rfl)
theorem dJ14_copyOfRange_68 : decode cJ14_copyOfRange 68 = .ok (.astore 5, 2) := dk_58 5 (dk_at dksJ14_copyOfRange_3 0 rfl rfl)
theorem dJ14_copyOfRange_70 : decode cJ14_copyOfRange 70 = .ok (.aload_n 0, 1) := dk_42 (dk_at dksJ14_copyOfRange_3 2 rfl rfl)
theorem dJ14_copyOfRange_71 : decode cJ14_copyOfRange 71 = .ok (.iload_n 1, 1) := dk_27 (dk_at dksJ14_copyOfRange_3 3 rfl rfl)
theorem dJ14_copyOfRange_72 : decode cJ14_copyOfRange 72 = .ok (.aload 5, 2) := dk_25 5 (dk_at dksJ14_copyOfRange_3 4 rfl rfl)
theorem dJ14_copyOfRange_74 : decode cJ14_copyOfRange 74 = .ok (.iconst 0, 1) := dk_3 (dk_at dksJ14_copyOfRange_3 6 rfl rfl)
theorem dJ14_copyOfRange_75 : decode cJ14_copyOfRange 75 = .ok (.aload_n 0, 1) := dk_42 (dk_at dksJ14_copyOfRange_3 7 rfl rfl)
theorem dJ14_copyOfRange_76 : decode cJ14_copyOfRange 76 = .ok (.arraylength, 1) := dk_190 (dk_at dksJ14_copyOfRange_3 8 rfl rfl)
theorem dJ14_copyOfRange_77 : decode cJ14_copyOfRange 77 = .ok (.iload_n 1, 1) := dk_27 (dk_at dksJ14_copyOfRange_3 9 rfl rfl)
theorem dJ14_copyOfRange_78 : decode cJ14_copyOfRange 78 = .ok (.isub, 1) := dk_100 (dk_at dksJ14_copyOfRange_3 10 rfl rfl)
theorem dJ14_copyOfRange_79 : decode cJ14_copyOfRange 79 = .ok (.iload 4, 2) := dk_21 4 (dk_at dksJ14_copyOfRange_3 11 rfl rfl)
theorem dJ14_copyOfRange_81 : decode cJ14_copyOfRange 81 = .ok (.invokestatic 304, 3) := dk_184 1 48 (dk_at dksJ14_copyOfRange_3 13 rfl rfl)
theorem dJ14_copyOfRange_84 : decode cJ14_copyOfRange 84 = .ok (.invokestatic 150, 3) := dk_184 0 150 (dk_at dksJ14_copyOfRange_3 16 rfl rfl)
theorem dJ14_copyOfRange_87 : decode cJ14_copyOfRange 87 = .ok (.aload 5, 2) := dk_25 5 (dk_at dksJ14_copyOfRange_3 19 rfl rfl)
theorem dJ14_copyOfRange_89 : decode cJ14_copyOfRange 89 = .ok (.areturn, 1) := dk_176 (dk_at dksJ14_copyOfRange_3 21 rfl rfl)
def dkwJ14_copyOf_0 : List UInt8 := [42, 27, 42, 182, 0, 86, 184, 1, 44, 176]
abbrev dktJ14_copyOf_0 : List UInt8 := dkwJ14_copyOf_0 ++ []
theorem dksJ14_copyOf_0 : cJ14_copyOf.data.toList.drop 0 = dktJ14_copyOf_0 := by decide +kernel
theorem dJ14_copyOf_0 : decode cJ14_copyOf 0 = .ok (.aload_n 0, 1) := dk_42 (dk_at dksJ14_copyOf_0 0 rfl rfl)
theorem dJ14_copyOf_1 : decode cJ14_copyOf 1 = .ok (.iload_n 1, 1) := dk_27 (dk_at dksJ14_copyOf_0 1 rfl rfl)
theorem dJ14_copyOf_2 : decode cJ14_copyOf 2 = .ok (.aload_n 0, 1) := dk_42 (dk_at dksJ14_copyOf_0 2 rfl rfl)
theorem dJ14_copyOf_3 : decode cJ14_copyOf 3 = .ok (.invokevirtual 86, 3) := dk_182 0 86 (dk_at dksJ14_copyOf_0 3 rfl rfl)
theorem dJ14_copyOf_6 : decode cJ14_copyOf 6 = .ok (.invokestatic 300, 3) := dk_184 1 44 (dk_at dksJ14_copyOf_0 6 rfl rfl)
theorem dJ14_copyOf_9 : decode cJ14_copyOf 9 = .ok (.areturn, 1) := dk_176 (dk_at dksJ14_copyOf_0 9 rfl rfl)
def dkwJ14_copyOf_2_1 : List UInt8 := [78, 42, 3, 45, 3, 42, 190, 27, 184, 1, 48, 184, 0, 150, 45, 176]
abbrev dktJ14_copyOf_2_1 : List UInt8 := dkwJ14_copyOf_2_1 ++ []
def dkwJ14_copyOf_2_0 : List UInt8 := [44, 18, 110, 166, 0, 10, 27, 189, 0, 2, 167, 0, 14, 44, 182, 0, 90, 27, 184, 0, 95, 192, 0, 110]
abbrev dktJ14_copyOf_2_0 : List UInt8 := dkwJ14_copyOf_2_0 ++ dktJ14_copyOf_2_1
theorem dksJ14_copyOf_2_0 : cJ14_copyOf_2.data.toList.drop 0 = dktJ14_copyOf_2_0 := by decide +kernel
theorem dksJ14_copyOf_2_1 : cJ14_copyOf_2.data.toList.drop 24 = dktJ14_copyOf_2_1 := dk_seg dksJ14_copyOf_2_0 24 rfl rfl
theorem dJ14_copyOf_2_0 : decode cJ14_copyOf_2 0 = .ok (.aload_n 2, 1) := dk_44 (dk_at dksJ14_copyOf_2_0 0 rfl rfl)
theorem dJ14_copyOf_2_1 : decode cJ14_copyOf_2 1 = .ok (.ldc 110, 2) := dk_18 110 (dk_at dksJ14_copyOf_2_0 1 rfl rfl)
theorem dJ14_copyOf_2_3 : decode cJ14_copyOf_2 3 = .ok (.if_acmp .ne 10, 3) := dk_166 0 10 (dk_at dksJ14_copyOf_2_0 3 rfl rfl)
theorem dJ14_copyOf_2_6 : decode cJ14_copyOf_2 6 = .ok (.iload_n 1, 1) := dk_27 (dk_at dksJ14_copyOf_2_0 6 rfl rfl)
theorem dJ14_copyOf_2_7 : decode cJ14_copyOf_2 7 = .ok (.anewarray 2, 3) := dk_189 0 2 (dk_at dksJ14_copyOf_2_0 7 rfl rfl)
theorem dJ14_copyOf_2_10 : decode cJ14_copyOf_2 10 = .ok (.goto 14, 3) := dk_167 0 14 (dk_at dksJ14_copyOf_2_0 10 rfl rfl)
theorem dJ14_copyOf_2_13 : decode cJ14_copyOf_2 13 = .ok (.aload_n 2, 1) := dk_44 (dk_at dksJ14_copyOf_2_0 13 rfl rfl)
theorem dJ14_copyOf_2_14 : decode cJ14_copyOf_2 14 = .ok (.invokevirtual 90, 3) := dk_182 0 90 (dk_at dksJ14_copyOf_2_0 14 rfl rfl)
theorem dJ14_copyOf_2_17 : decode cJ14_copyOf_2 17 = .ok (.iload_n 1, 1) := dk_27 (dk_at dksJ14_copyOf_2_0 17 rfl rfl)
theorem dJ14_copyOf_2_18 : decode cJ14_copyOf_2 18 = .ok (.invokestatic 95, 3) := dk_184 0 95 (dk_at dksJ14_copyOf_2_0 18 rfl rfl)
theorem dJ14_copyOf_2_21 : decode cJ14_copyOf_2 21 = .ok (.checkcast 110, 3) := dk_192 0 110 (dk_at dksJ14_copyOf_2_0 21 rfl rfl)
theorem dJ14_copyOf_2_24 : decode cJ14_copyOf_2 24 = .ok (.astore_n 3, 1) := dk_78 (dk_at dksJ14_copyOf_2_1 0 rfl rfl)
theorem dJ14_copyOf_2_25 : decode cJ14_copyOf_2 25 = .ok (.aload_n 0, 1) := dk_42 (dk_at dksJ14_copyOf_2_1 1 rfl rfl)
theorem dJ14_copyOf_2_26 : decode cJ14_copyOf_2 26 = .ok (.iconst 0, 1) := dk_3 (dk_at dksJ14_copyOf_2_1 2 rfl rfl)
theorem dJ14_copyOf_2_27 : decode cJ14_copyOf_2 27 = .ok (.aload_n 3, 1) := dk_45 (dk_at dksJ14_copyOf_2_1 3 rfl rfl)
theorem dJ14_copyOf_2_28 : decode cJ14_copyOf_2 28 = .ok (.iconst 0, 1) := dk_3 (dk_at dksJ14_copyOf_2_1 4 rfl rfl)
theorem dJ14_copyOf_2_29 : decode cJ14_copyOf_2 29 = .ok (.aload_n 0, 1) := dk_42 (dk_at dksJ14_copyOf_2_1 5 rfl rfl)
theorem dJ14_copyOf_2_30 : decode cJ14_copyOf_2 30 = .ok (.arraylength, 1) := dk_190 (dk_at dksJ14_copyOf_2_1 6 rfl rfl)
theorem dJ14_copyOf_2_31 : decode cJ14_copyOf_2 31 = .ok (.iload_n 1, 1) := dk_27 (dk_at dksJ14_copyOf_2_1 7 rfl rfl)
theorem dJ14_copyOf_2_32 : decode cJ14_copyOf_2 32 = .ok (.invokestatic 304, 3) := dk_184 1 48 (dk_at dksJ14_copyOf_2_1 8 rfl rfl)
theorem dJ14_copyOf_2_35 : decode cJ14_copyOf_2 35 = .ok (.invokestatic 150, 3) := dk_184 0 150 (dk_at dksJ14_copyOf_2_1 11 rfl rfl)
theorem dJ14_copyOf_2_38 : decode cJ14_copyOf_2 38 = .ok (.aload_n 3, 1) := dk_45 (dk_at dksJ14_copyOf_2_1 14 rfl rfl)
theorem dJ14_copyOf_2_39 : decode cJ14_copyOf_2 39 = .ok (.areturn, 1) := dk_176 (dk_at dksJ14_copyOf_2_1 15 rfl rfl)
def dkwJ14_copyOf_3_1 : List UInt8 := [27, 184, 1, 48, 184, 0, 150, 44, 176]
abbrev dktJ14_copyOf_3_1 : List UInt8 := dkwJ14_copyOf_3_1 ++ []
def dkwJ14_copyOf_3_0 : List UInt8 := [27, 42, 190, 160, 0, 11, 42, 182, 1, 54, 192, 1, 55, 176, 27, 188, 8, 77, 42, 3, 44, 3, 42, 190]
abbrev dktJ14_copyOf_3_0 : List UInt8 := dkwJ14_copyOf_3_0 ++ dktJ14_copyOf_3_1
theorem dksJ14_copyOf_3_0 : cJ14_copyOf_3.data.toList.drop 0 = dktJ14_copyOf_3_0 := by decide +kernel
theorem dksJ14_copyOf_3_1 : cJ14_copyOf_3.data.toList.drop 24 = dktJ14_copyOf_3_1 := dk_seg dksJ14_copyOf_3_0 24 rfl rfl
theorem dJ14_copyOf_3_0 : decode cJ14_copyOf_3 0 = .ok (.iload_n 1, 1) := dk_27 (dk_at dksJ14_copyOf_3_0 0 rfl rfl)
theorem dJ14_copyOf_3_1 : decode cJ14_copyOf_3 1 = .ok (.aload_n 0, 1) := dk_42 (dk_at dksJ14_copyOf_3_0 1 rfl rfl)
theorem dJ14_copyOf_3_2 : decode cJ14_copyOf_3 2 = .ok (.arraylength, 1) := dk_190 (dk_at dksJ14_copyOf_3_0 2 rfl rfl)
theorem dJ14_copyOf_3_3 : decode cJ14_copyOf_3 3 = .ok (.if_icmp .ne 11, 3) := dk_160 0 11 (dk_at dksJ14_copyOf_3_0 3 rfl rfl)
theorem dJ14_copyOf_3_6 : decode cJ14_copyOf_3 6 = .ok (.aload_n 0, 1) := dk_42 (dk_at dksJ14_copyOf_3_0 6 rfl rfl)
theorem dJ14_copyOf_3_7 : decode cJ14_copyOf_3 7 = .ok (.invokevirtual 310, 3) := dk_182 1 54 (dk_at dksJ14_copyOf_3_0 7 rfl rfl)
theorem dJ14_copyOf_3_10 : decode cJ14_copyOf_3 10 = .ok (.checkcast 311, 3) := dk_192 1 55 (dk_at dksJ14_copyOf_3_0 10 rfl rfl)
theorem dJ14_copyOf_3_13 : decode cJ14_copyOf_3 13 = .ok (.areturn, 1) := dk_176 (dk_at dksJ14_copyOf_3_0 13 rfl rfl)
theorem dJ14_copyOf_3_14 : decode cJ14_copyOf_3 14 = .ok (.iload_n 1, 1) := dk_27 (dk_at dksJ14_copyOf_3_0 14 rfl rfl)
theorem dJ14_copyOf_3_15 : decode cJ14_copyOf_3 15 = .ok (.newarray .byte, 2) := dk_188_8 (dk_at dksJ14_copyOf_3_0 15 rfl rfl)
theorem dJ14_copyOf_3_17 : decode cJ14_copyOf_3 17 = .ok (.astore_n 2, 1) := dk_77 (dk_at dksJ14_copyOf_3_0 17 rfl rfl)
theorem dJ14_copyOf_3_18 : decode cJ14_copyOf_3 18 = .ok (.aload_n 0, 1) := dk_42 (dk_at dksJ14_copyOf_3_0 18 rfl rfl)
theorem dJ14_copyOf_3_19 : decode cJ14_copyOf_3 19 = .ok (.iconst 0, 1) := dk_3 (dk_at dksJ14_copyOf_3_0 19 rfl rfl)
theorem dJ14_copyOf_3_20 : decode cJ14_copyOf_3 20 = .ok (.aload_n 2, 1) := dk_44 (dk_at dksJ14_copyOf_3_0 20 rfl rfl)
theorem dJ14_copyOf_3_21 : decode cJ14_copyOf_3 21 = .ok (.iconst 0, 1) := dk_3 (dk_at dksJ14_copyOf_3_0 21 rfl rfl)
theorem dJ14_copyOf_3_22 : decode cJ14_copyOf_3 22 = .ok (.aload_n 0, 1) := dk_42 (dk_at dksJ14_copyOf_3_0 22 rfl rfl)
theorem dJ14_copyOf_3_23 : decode cJ14_copyOf_3 23 = .ok (.arraylength, 1) := dk_190 (dk_at dksJ14_copyOf_3_0 23 rfl rfl)
theorem dJ14_copyOf_3_24 : decode cJ14_copyOf_3 24 = .ok (.iload_n 1, 1) := dk_27 (dk_at dksJ14_copyOf_3_1 0 rfl rfl)
theorem dJ14_copyOf_3_25 : decode cJ14_copyOf_3 25 = .ok (.invokestatic 304, 3) := dk_184 1 48 (dk_at dksJ14_copyOf_3_1 1 rfl rfl)
theorem dJ14_copyOf_3_28 : decode cJ14_copyOf_3 28 = .ok (.invokestatic 150, 3) := dk_184 0 150 (dk_at dksJ14_copyOf_3_1 4 rfl rfl)
theorem dJ14_copyOf_3_31 : decode cJ14_copyOf_3 31 = .ok (.aload_n 2, 1) := dk_44 (dk_at dksJ14_copyOf_3_1 7 rfl rfl)
theorem dJ14_copyOf_3_32 : decode cJ14_copyOf_3 32 = .ok (.areturn, 1) := dk_176 (dk_at dksJ14_copyOf_3_1 8 rfl rfl)
def dkwJ14_copyOfRange_2_1 : List UInt8 := [176]
abbrev dktJ14_copyOfRange_2_1 : List UInt8 := dkwJ14_copyOfRange_2_1 ++ []
def dkwJ14_copyOfRange_2_0 : List UInt8 := [27, 154, 0, 9, 28, 42, 190, 159, 0, 10, 42, 27, 28, 184, 1, 83, 176, 42, 182, 1, 54, 192, 1, 55]
abbrev dktJ14_copyOfRange_2_0 : List UInt8 := dkwJ14_copyOfRange_2_0 ++ dktJ14_copyOfRange_2_1
theorem dksJ14_copyOfRange_2_0 : cJ14_copyOfRange_2.data.toList.drop 0 = dktJ14_copyOfRange_2_0 := by decide +kernel
theorem dksJ14_copyOfRange_2_1 : cJ14_copyOfRange_2.data.toList.drop 24 = dktJ14_copyOfRange_2_1 := dk_seg dksJ14_copyOfRange_2_0 24 rfl rfl
theorem dJ14_copyOfRange_2_0 : decode cJ14_copyOfRange_2 0 = .ok (.iload_n 1, 1) := dk_27 (dk_at dksJ14_copyOfRange_2_0 0 rfl rfl)
theorem dJ14_copyOfRange_2_1 : decode cJ14_copyOfRange_2 1 = .ok (.ifCond .ne 9, 3) := dk_154 0 9 (dk_at dksJ14_copyOfRange_2_0 1 rfl rfl)
theorem dJ14_copyOfRange_2_4 : decode cJ14_copyOfRange_2 4 = .ok (.iload_n 2, 1) := dk_28 (dk_at dksJ14_copyOfRange_2_0 4 rfl rfl)
theorem dJ14_copyOfRange_2_5 : decode cJ14_copyOfRange_2 5 = .ok (.aload_n 0, 1) := dk_42 (dk_at dksJ14_copyOfRange_2_0 5 rfl rfl)
theorem dJ14_copyOfRange_2_6 : decode cJ14_copyOfRange_2 6 = .ok (.arraylength, 1) := dk_190 (dk_at dksJ14_copyOfRange_2_0 6 rfl rfl)
theorem dJ14_copyOfRange_2_7 : decode cJ14_copyOfRange_2 7 = .ok (.if_icmp .eq 10, 3) := dk_159 0 10 (dk_at dksJ14_copyOfRange_2_0 7 rfl rfl)
theorem dJ14_copyOfRange_2_10 : decode cJ14_copyOfRange_2 10 = .ok (.aload_n 0, 1) := dk_42 (dk_at dksJ14_copyOfRange_2_0 10 rfl rfl)
theorem dJ14_copyOfRange_2_11 : decode cJ14_copyOfRange_2 11 = .ok (.iload_n 1, 1) := dk_27 (dk_at dksJ14_copyOfRange_2_0 11 rfl rfl)
theorem dJ14_copyOfRange_2_12 : decode cJ14_copyOfRange_2 12 = .ok (.iload_n 2, 1) := dk_28 (dk_at dksJ14_copyOfRange_2_0 12 rfl rfl)
theorem dJ14_copyOfRange_2_13 : decode cJ14_copyOfRange_2 13 = .ok (.invokestatic 339, 3) := dk_184 1 83 (dk_at dksJ14_copyOfRange_2_0 13 rfl rfl)
theorem dJ14_copyOfRange_2_16 : decode cJ14_copyOfRange_2 16 = .ok (.areturn, 1) := dk_176 (dk_at dksJ14_copyOfRange_2_0 16 rfl rfl)
theorem dJ14_copyOfRange_2_17 : decode cJ14_copyOfRange_2 17 = .ok (.aload_n 0, 1) := dk_42 (dk_at dksJ14_copyOfRange_2_0 17 rfl rfl)
theorem dJ14_copyOfRange_2_18 : decode cJ14_copyOfRange_2 18 = .ok (.invokevirtual 310, 3) := dk_182 1 54 (dk_at dksJ14_copyOfRange_2_0 18 rfl rfl)
theorem dJ14_copyOfRange_2_21 : decode cJ14_copyOfRange_2 21 = .ok (.checkcast 311, 3) := dk_192 1 55 (dk_at dksJ14_copyOfRange_2_0 21 rfl rfl)
theorem dJ14_copyOfRange_2_24 : decode cJ14_copyOfRange_2 24 = .ok (.areturn, 1) := dk_176 (dk_at dksJ14_copyOfRange_2_1 0 rfl rfl)
def dkwJ14_copyOfRangeByte_1 : List UInt8 := [184, 1, 48, 184, 0, 150, 25, 4, 176]
abbrev dktJ14_copyOfRangeByte_1 : List UInt8 := dkwJ14_copyOfRangeByte_1 ++ []
def dkwJ14_copyOfRangeByte_0 : List UInt8 := [27, 28, 184, 1, 87, 28, 27, 100, 62, 29, 188, 8, 58, 4, 42, 27, 25, 4, 3, 42, 190, 27, 100, 29]
abbrev dktJ14_copyOfRangeByte_0 : List UInt8 := dkwJ14_copyOfRangeByte_0 ++ dktJ14_copyOfRangeByte_1
theorem dksJ14_copyOfRangeByte_0 : cJ14_copyOfRangeByte.data.toList.drop 0 = dktJ14_copyOfRangeByte_0 := by decide +kernel
theorem dksJ14_copyOfRangeByte_1 : cJ14_copyOfRangeByte.data.toList.drop 24 = dktJ14_copyOfRangeByte_1 := dk_seg dksJ14_copyOfRangeByte_0 24 rfl rfl
theorem dJ14_copyOfRangeByte_0 : decode cJ14_copyOfRangeByte 0 = .ok (.iload_n 1, 1) := dk_27 (dk_at dksJ14_copyOfRangeByte_0 0 rfl rfl)
theorem dJ14_copyOfRangeByte_1 : decode cJ14_copyOfRangeByte 1 = .ok (.iload_n 2, 1) := dk_28 (dk_at dksJ14_copyOfRangeByte_0 1 rfl rfl)
theorem dJ14_copyOfRangeByte_2 : decode cJ14_copyOfRangeByte 2 = .ok (.invokestatic 343, 3) := dk_184 1 87 (dk_at dksJ14_copyOfRangeByte_0 2 rfl rfl)
theorem dJ14_copyOfRangeByte_5 : decode cJ14_copyOfRangeByte 5 = .ok (.iload_n 2, 1) := dk_28 (dk_at dksJ14_copyOfRangeByte_0 5 rfl rfl)
theorem dJ14_copyOfRangeByte_6 : decode cJ14_copyOfRangeByte 6 = .ok (.iload_n 1, 1) := dk_27 (dk_at dksJ14_copyOfRangeByte_0 6 rfl rfl)
theorem dJ14_copyOfRangeByte_7 : decode cJ14_copyOfRangeByte 7 = .ok (.isub, 1) := dk_100 (dk_at dksJ14_copyOfRangeByte_0 7 rfl rfl)
theorem dJ14_copyOfRangeByte_8 : decode cJ14_copyOfRangeByte 8 = .ok (.istore_n 3, 1) := dk_62 (dk_at dksJ14_copyOfRangeByte_0 8 rfl rfl)
theorem dJ14_copyOfRangeByte_9 : decode cJ14_copyOfRangeByte 9 = .ok (.iload_n 3, 1) := dk_29 (dk_at dksJ14_copyOfRangeByte_0 9 rfl rfl)
theorem dJ14_copyOfRangeByte_10 : decode cJ14_copyOfRangeByte 10 = .ok (.newarray .byte, 2) := dk_188_8 (dk_at dksJ14_copyOfRangeByte_0 10 rfl rfl)
theorem dJ14_copyOfRangeByte_12 : decode cJ14_copyOfRangeByte 12 = .ok (.astore 4, 2) := dk_58 4 (dk_at dksJ14_copyOfRangeByte_0 12 rfl rfl)
theorem dJ14_copyOfRangeByte_14 : decode cJ14_copyOfRangeByte 14 = .ok (.aload_n 0, 1) := dk_42 (dk_at dksJ14_copyOfRangeByte_0 14 rfl rfl)
theorem dJ14_copyOfRangeByte_15 : decode cJ14_copyOfRangeByte 15 = .ok (.iload_n 1, 1) := dk_27 (dk_at dksJ14_copyOfRangeByte_0 15 rfl rfl)
theorem dJ14_copyOfRangeByte_16 : decode cJ14_copyOfRangeByte 16 = .ok (.aload 4, 2) := dk_25 4 (dk_at dksJ14_copyOfRangeByte_0 16 rfl rfl)
theorem dJ14_copyOfRangeByte_18 : decode cJ14_copyOfRangeByte 18 = .ok (.iconst 0, 1) := dk_3 (dk_at dksJ14_copyOfRangeByte_0 18 rfl rfl)
theorem dJ14_copyOfRangeByte_19 : decode cJ14_copyOfRangeByte 19 = .ok (.aload_n 0, 1) := dk_42 (dk_at dksJ14_copyOfRangeByte_0 19 rfl rfl)
theorem dJ14_copyOfRangeByte_20 : decode cJ14_copyOfRangeByte 20 = .ok (.arraylength, 1) := dk_190 (dk_at dksJ14_copyOfRangeByte_0 20 rfl rfl)
theorem dJ14_copyOfRangeByte_21 : decode cJ14_copyOfRangeByte 21 = .ok (.iload_n 1, 1) := dk_27 (dk_at dksJ14_copyOfRangeByte_0 21 rfl rfl)
theorem dJ14_copyOfRangeByte_22 : decode cJ14_copyOfRangeByte 22 = .ok (.isub, 1) := dk_100 (dk_at dksJ14_copyOfRangeByte_0 22 rfl rfl)
theorem dJ14_copyOfRangeByte_23 : decode cJ14_copyOfRangeByte 23 = .ok (.iload_n 3, 1) := dk_29 (dk_at dksJ14_copyOfRangeByte_0 23 rfl rfl)
theorem dJ14_copyOfRangeByte_24 : decode cJ14_copyOfRangeByte 24 = .ok (.invokestatic 304, 3) := dk_184 1 48 (dk_at dksJ14_copyOfRangeByte_1 0 rfl rfl)
theorem dJ14_copyOfRangeByte_27 : decode cJ14_copyOfRangeByte 27 = .ok (.invokestatic 150, 3) := dk_184 0 150 (dk_at dksJ14_copyOfRangeByte_1 3 rfl rfl)
theorem dJ14_copyOfRangeByte_30 : decode cJ14_copyOfRangeByte 30 = .ok (.aload 4, 2) := dk_25 4 (dk_at dksJ14_copyOfRangeByte_1 6 rfl rfl)
theorem dJ14_copyOfRangeByte_32 : decode cJ14_copyOfRangeByte 32 = .ok (.areturn, 1) := dk_176 (dk_at dksJ14_copyOfRangeByte_1 8 rfl rfl)
def dkwJ14_checkLength_1 : List UInt8 := [182, 0, 50, 27, 182, 0, 54, 182, 0, 61, 183, 0, 65, 191, 177]
abbrev dktJ14_checkLength_1 : List UInt8 := dkwJ14_checkLength_1 ++ []
def dkwJ14_checkLength_0 : List UInt8 := [27, 26, 162, 0, 35, 187, 0, 43, 89, 187, 0, 45, 89, 183, 0, 47, 26, 182, 0, 54, 19, 1, 81]
abbrev dktJ14_checkLength_0 : List UInt8 := dkwJ14_checkLength_0 ++ dktJ14_checkLength_1
theorem dksJ14_checkLength_0 : cJ14_checkLength.data.toList.drop 0 = dktJ14_checkLength_0 := by decide +kernel
theorem dksJ14_checkLength_1 : cJ14_checkLength.data.toList.drop 23 = dktJ14_checkLength_1 := dk_seg dksJ14_checkLength_0 23 rfl rfl
theorem dJ14_checkLength_0 : decode cJ14_checkLength 0 = .ok (.iload_n 1, 1) := dk_27 (dk_at dksJ14_checkLength_0 0 rfl rfl)
theorem dJ14_checkLength_1 : decode cJ14_checkLength 1 = .ok (.iload_n 0, 1) := dk_26 (dk_at dksJ14_checkLength_0 1 rfl rfl)
theorem dJ14_checkLength_2 : decode cJ14_checkLength 2 = .ok (.if_icmp .ge 35, 3) := dk_162 0 35 (dk_at dksJ14_checkLength_0 2 rfl rfl)
theorem dJ14_checkLength_5 : decode cJ14_checkLength 5 = .ok (.new 43, 3) := dk_187 0 43 (dk_at dksJ14_checkLength_0 5 rfl rfl)
theorem dJ14_checkLength_8 : decode cJ14_checkLength 8 = .ok (.dup, 1) := dk_89 (dk_at dksJ14_checkLength_0 8 rfl rfl)
theorem dJ14_checkLength_9 : decode cJ14_checkLength 9 = .ok (.new 45, 3) := dk_187 0 45 (dk_at dksJ14_checkLength_0 9 rfl rfl)
theorem dJ14_checkLength_12 : decode cJ14_checkLength 12 = .ok (.dup, 1) := dk_89 (dk_at dksJ14_checkLength_0 12 rfl rfl)
theorem dJ14_checkLength_13 : decode cJ14_checkLength 13 = .ok (.invokespecial 47, 3) := dk_183 0 47 (dk_at dksJ14_checkLength_0 13 rfl rfl)
theorem dJ14_checkLength_16 : decode cJ14_checkLength 16 = .ok (.iload_n 0, 1) := dk_26 (dk_at dksJ14_checkLength_0 16 rfl rfl)
theorem dJ14_checkLength_17 : decode cJ14_checkLength 17 = .ok (.invokevirtual 54, 3) := dk_182 0 54 (dk_at dksJ14_checkLength_0 17 rfl rfl)
theorem dJ14_checkLength_20 : decode cJ14_checkLength 20 = .ok (.ldc_w 337, 3) := dk_19 1 81 (dk_at dksJ14_checkLength_0 20 rfl rfl)
theorem dJ14_checkLength_23 : decode cJ14_checkLength 23 = .ok (.invokevirtual 50, 3) := dk_182 0 50 (dk_at dksJ14_checkLength_1 0 rfl rfl)
theorem dJ14_checkLength_26 : decode cJ14_checkLength 26 = .ok (.iload_n 1, 1) := dk_27 (dk_at dksJ14_checkLength_1 3 rfl rfl)
theorem dJ14_checkLength_27 : decode cJ14_checkLength 27 = .ok (.invokevirtual 54, 3) := dk_182 0 54 (dk_at dksJ14_checkLength_1 4 rfl rfl)
theorem dJ14_checkLength_30 : decode cJ14_checkLength 30 = .ok (.invokevirtual 61, 3) := dk_182 0 61 (dk_at dksJ14_checkLength_1 7 rfl rfl)
theorem dJ14_checkLength_33 : decode cJ14_checkLength 33 = .ok (.invokespecial 65, 3) := dk_183 0 65 (dk_at dksJ14_checkLength_1 10 rfl rfl)
theorem dJ14_checkLength_36 : decode cJ14_checkLength 36 = .ok (.athrow, 1) := dk_191 (dk_at dksJ14_checkLength_1 13 rfl rfl)
theorem dJ14_checkLength_37 : decode cJ14_checkLength 37 = .ok (.return_, 1) := dk_177 (dk_at dksJ14_checkLength_1 14 rfl rfl)
def dkwJ14_copyOf_4_1 : List UInt8 := [27, 184, 1, 48, 184, 0, 150, 44, 176]
abbrev dktJ14_copyOf_4_1 : List UInt8 := dkwJ14_copyOf_4_1 ++ []
def dkwJ14_copyOf_4_0 : List UInt8 := [27, 42, 190, 160, 0, 11, 42, 182, 1, 63, 192, 1, 64, 176, 27, 188, 11, 77, 42, 3, 44, 3, 42, 190]
abbrev dktJ14_copyOf_4_0 : List UInt8 := dkwJ14_copyOf_4_0 ++ dktJ14_copyOf_4_1
theorem dksJ14_copyOf_4_0 : cJ14_copyOf_4.data.toList.drop 0 = dktJ14_copyOf_4_0 := by decide +kernel
theorem dksJ14_copyOf_4_1 : cJ14_copyOf_4.data.toList.drop 24 = dktJ14_copyOf_4_1 := dk_seg dksJ14_copyOf_4_0 24 rfl rfl
theorem dJ14_copyOf_4_0 : decode cJ14_copyOf_4 0 = .ok (.iload_n 1, 1) := dk_27 (dk_at dksJ14_copyOf_4_0 0 rfl rfl)
theorem dJ14_copyOf_4_1 : decode cJ14_copyOf_4 1 = .ok (.aload_n 0, 1) := dk_42 (dk_at dksJ14_copyOf_4_0 1 rfl rfl)
theorem dJ14_copyOf_4_2 : decode cJ14_copyOf_4 2 = .ok (.arraylength, 1) := dk_190 (dk_at dksJ14_copyOf_4_0 2 rfl rfl)
theorem dJ14_copyOf_4_3 : decode cJ14_copyOf_4 3 = .ok (.if_icmp .ne 11, 3) := dk_160 0 11 (dk_at dksJ14_copyOf_4_0 3 rfl rfl)
theorem dJ14_copyOf_4_6 : decode cJ14_copyOf_4 6 = .ok (.aload_n 0, 1) := dk_42 (dk_at dksJ14_copyOf_4_0 6 rfl rfl)
theorem dJ14_copyOf_4_7 : decode cJ14_copyOf_4 7 = .ok (.invokevirtual 319, 3) := dk_182 1 63 (dk_at dksJ14_copyOf_4_0 7 rfl rfl)
theorem dJ14_copyOf_4_10 : decode cJ14_copyOf_4 10 = .ok (.checkcast 320, 3) := dk_192 1 64 (dk_at dksJ14_copyOf_4_0 10 rfl rfl)
theorem dJ14_copyOf_4_13 : decode cJ14_copyOf_4 13 = .ok (.areturn, 1) := dk_176 (dk_at dksJ14_copyOf_4_0 13 rfl rfl)
theorem dJ14_copyOf_4_14 : decode cJ14_copyOf_4 14 = .ok (.iload_n 1, 1) := dk_27 (dk_at dksJ14_copyOf_4_0 14 rfl rfl)
theorem dJ14_copyOf_4_15 : decode cJ14_copyOf_4 15 = .ok (.newarray .long, 2) := dk_188_11 (dk_at dksJ14_copyOf_4_0 15 rfl rfl)
theorem dJ14_copyOf_4_17 : decode cJ14_copyOf_4 17 = .ok (.astore_n 2, 1) := dk_77 (dk_at dksJ14_copyOf_4_0 17 rfl rfl)
theorem dJ14_copyOf_4_18 : decode cJ14_copyOf_4 18 = .ok (.aload_n 0, 1) := dk_42 (dk_at dksJ14_copyOf_4_0 18 rfl rfl)
theorem dJ14_copyOf_4_19 : decode cJ14_copyOf_4 19 = .ok (.iconst 0, 1) := dk_3 (dk_at dksJ14_copyOf_4_0 19 rfl rfl)
theorem dJ14_copyOf_4_20 : decode cJ14_copyOf_4 20 = .ok (.aload_n 2, 1) := dk_44 (dk_at dksJ14_copyOf_4_0 20 rfl rfl)
theorem dJ14_copyOf_4_21 : decode cJ14_copyOf_4 21 = .ok (.iconst 0, 1) := dk_3 (dk_at dksJ14_copyOf_4_0 21 rfl rfl)
theorem dJ14_copyOf_4_22 : decode cJ14_copyOf_4 22 = .ok (.aload_n 0, 1) := dk_42 (dk_at dksJ14_copyOf_4_0 22 rfl rfl)
theorem dJ14_copyOf_4_23 : decode cJ14_copyOf_4 23 = .ok (.arraylength, 1) := dk_190 (dk_at dksJ14_copyOf_4_0 23 rfl rfl)
theorem dJ14_copyOf_4_24 : decode cJ14_copyOf_4 24 = .ok (.iload_n 1, 1) := dk_27 (dk_at dksJ14_copyOf_4_1 0 rfl rfl)
theorem dJ14_copyOf_4_25 : decode cJ14_copyOf_4 25 = .ok (.invokestatic 304, 3) := dk_184 1 48 (dk_at dksJ14_copyOf_4_1 1 rfl rfl)
theorem dJ14_copyOf_4_28 : decode cJ14_copyOf_4 28 = .ok (.invokestatic 150, 3) := dk_184 0 150 (dk_at dksJ14_copyOf_4_1 4 rfl rfl)
theorem dJ14_copyOf_4_31 : decode cJ14_copyOf_4 31 = .ok (.aload_n 2, 1) := dk_44 (dk_at dksJ14_copyOf_4_1 7 rfl rfl)
theorem dJ14_copyOf_4_32 : decode cJ14_copyOf_4 32 = .ok (.areturn, 1) := dk_176 (dk_at dksJ14_copyOf_4_1 8 rfl rfl)
def dkwJ15_init_0 : List UInt8 := [42, 183, 0, 1, 42, 44, 181, 0, 7, 42, 45, 181, 0, 13, 42, 43, 181, 0, 17, 177]
abbrev dktJ15_init_0 : List UInt8 := dkwJ15_init_0 ++ []
theorem dksJ15_init_0 : cJ15_init.data.toList.drop 0 = dktJ15_init_0 := by decide +kernel
theorem dJ15_init_0 : decode cJ15_init 0 = .ok (.aload_n 0, 1) := dk_42 (dk_at dksJ15_init_0 0 rfl rfl)
theorem dJ15_init_1 : decode cJ15_init 1 = .ok (.invokespecial 1, 3) := dk_183 0 1 (dk_at dksJ15_init_0 1 rfl rfl)
theorem dJ15_init_4 : decode cJ15_init 4 = .ok (.aload_n 0, 1) := dk_42 (dk_at dksJ15_init_0 4 rfl rfl)
theorem dJ15_init_5 : decode cJ15_init 5 = .ok (.aload_n 2, 1) := dk_44 (dk_at dksJ15_init_0 5 rfl rfl)
theorem dJ15_init_6 : decode cJ15_init 6 = .ok (.putfield 7, 3) := dk_181 0 7 (dk_at dksJ15_init_0 6 rfl rfl)
theorem dJ15_init_9 : decode cJ15_init 9 = .ok (.aload_n 0, 1) := dk_42 (dk_at dksJ15_init_0 9 rfl rfl)
theorem dJ15_init_10 : decode cJ15_init 10 = .ok (.aload_n 3, 1) := dk_45 (dk_at dksJ15_init_0 10 rfl rfl)
theorem dJ15_init_11 : decode cJ15_init 11 = .ok (.putfield 13, 3) := dk_181 0 13 (dk_at dksJ15_init_0 11 rfl rfl)
theorem dJ15_init_14 : decode cJ15_init 14 = .ok (.aload_n 0, 1) := dk_42 (dk_at dksJ15_init_0 14 rfl rfl)
theorem dJ15_init_15 : decode cJ15_init 15 = .ok (.aload_n 1, 1) := dk_43 (dk_at dksJ15_init_0 15 rfl rfl)
theorem dJ15_init_16 : decode cJ15_init 16 = .ok (.putfield 17, 3) := dk_181 0 17 (dk_at dksJ15_init_0 16 rfl rfl)
theorem dJ15_init_19 : decode cJ15_init 19 = .ok (.return_, 1) := dk_177 (dk_at dksJ15_init_0 19 rfl rfl)
def dkwJ16_init_1 : List UInt8 := [177]
abbrev dktJ16_init_1 : List UInt8 := dkwJ16_init_1 ++ []
def dkwJ16_init_0 : List UInt8 := [42, 183, 0, 1, 42, 43, 181, 0, 7, 42, 28, 181, 0, 13, 42, 3, 181, 0, 17, 42, 3, 181, 0, 20]
abbrev dktJ16_init_0 : List UInt8 := dkwJ16_init_0 ++ dktJ16_init_1
theorem dksJ16_init_0 : cJ16_init.data.toList.drop 0 = dktJ16_init_0 := by decide +kernel
theorem dksJ16_init_1 : cJ16_init.data.toList.drop 24 = dktJ16_init_1 := dk_seg dksJ16_init_0 24 rfl rfl
theorem dJ16_init_0 : decode cJ16_init 0 = .ok (.aload_n 0, 1) := dk_42 (dk_at dksJ16_init_0 0 rfl rfl)
theorem dJ16_init_1 : decode cJ16_init 1 = .ok (.invokespecial 1, 3) := dk_183 0 1 (dk_at dksJ16_init_0 1 rfl rfl)
theorem dJ16_init_4 : decode cJ16_init 4 = .ok (.aload_n 0, 1) := dk_42 (dk_at dksJ16_init_0 4 rfl rfl)
theorem dJ16_init_5 : decode cJ16_init 5 = .ok (.aload_n 1, 1) := dk_43 (dk_at dksJ16_init_0 5 rfl rfl)
theorem dJ16_init_6 : decode cJ16_init 6 = .ok (.putfield 7, 3) := dk_181 0 7 (dk_at dksJ16_init_0 6 rfl rfl)
theorem dJ16_init_9 : decode cJ16_init 9 = .ok (.aload_n 0, 1) := dk_42 (dk_at dksJ16_init_0 9 rfl rfl)
theorem dJ16_init_10 : decode cJ16_init 10 = .ok (.iload_n 2, 1) := dk_28 (dk_at dksJ16_init_0 10 rfl rfl)
theorem dJ16_init_11 : decode cJ16_init 11 = .ok (.putfield 13, 3) := dk_181 0 13 (dk_at dksJ16_init_0 11 rfl rfl)
theorem dJ16_init_14 : decode cJ16_init 14 = .ok (.aload_n 0, 1) := dk_42 (dk_at dksJ16_init_0 14 rfl rfl)
theorem dJ16_init_15 : decode cJ16_init 15 = .ok (.iconst 0, 1) := dk_3 (dk_at dksJ16_init_0 15 rfl rfl)
theorem dJ16_init_16 : decode cJ16_init 16 = .ok (.putfield 17, 3) := dk_181 0 17 (dk_at dksJ16_init_0 16 rfl rfl)
theorem dJ16_init_19 : decode cJ16_init 19 = .ok (.aload_n 0, 1) := dk_42 (dk_at dksJ16_init_0 19 rfl rfl)
theorem dJ16_init_20 : decode cJ16_init 20 = .ok (.iconst 0, 1) := dk_3 (dk_at dksJ16_init_0 20 rfl rfl)
theorem dJ16_init_21 : decode cJ16_init 21 = .ok (.putfield 20, 3) := dk_181 0 20 (dk_at dksJ16_init_0 21 rfl rfl)
theorem dJ16_init_24 : decode cJ16_init 24 = .ok (.return_, 1) := dk_177 (dk_at dksJ16_init_1 0 rfl rfl)
def dkwJ16_hasNext_0 : List UInt8 := [42, 180, 0, 17, 42, 180, 0, 13, 159, 0, 7, 4, 167, 0, 4, 3, 172]
abbrev dktJ16_hasNext_0 : List UInt8 := dkwJ16_hasNext_0 ++ []
theorem dksJ16_hasNext_0 : cJ16_hasNext.data.toList.drop 0 = dktJ16_hasNext_0 := by decide +kernel
theorem dJ16_hasNext_0 : decode cJ16_hasNext 0 = .ok (.aload_n 0, 1) := dk_42 (dk_at dksJ16_hasNext_0 0 rfl rfl)
theorem dJ16_hasNext_1 : decode cJ16_hasNext 1 = .ok (.getfield 17, 3) := dk_180 0 17 (dk_at dksJ16_hasNext_0 1 rfl rfl)
theorem dJ16_hasNext_4 : decode cJ16_hasNext 4 = .ok (.aload_n 0, 1) := dk_42 (dk_at dksJ16_hasNext_0 4 rfl rfl)
theorem dJ16_hasNext_5 : decode cJ16_hasNext 5 = .ok (.getfield 13, 3) := dk_180 0 13 (dk_at dksJ16_hasNext_0 5 rfl rfl)
theorem dJ16_hasNext_8 : decode cJ16_hasNext 8 = .ok (.if_icmp .eq 7, 3) := dk_159 0 7 (dk_at dksJ16_hasNext_0 8 rfl rfl)
theorem dJ16_hasNext_11 : decode cJ16_hasNext 11 = .ok (.iconst 1, 1) := dk_4 (dk_at dksJ16_hasNext_0 11 rfl rfl)
theorem dJ16_hasNext_12 : decode cJ16_hasNext 12 = .ok (.goto 4, 3) := dk_167 0 4 (dk_at dksJ16_hasNext_0 12 rfl rfl)
theorem dJ16_hasNext_15 : decode cJ16_hasNext 15 = .ok (.iconst 0, 1) := dk_3 (dk_at dksJ16_hasNext_0 15 rfl rfl)
theorem dJ16_hasNext_16 : decode cJ16_hasNext 16 = .ok (.ireturn, 1) := dk_172 (dk_at dksJ16_hasNext_0 16 rfl rfl)
def dkwJ16_next_1 : List UInt8 := [176, 76, 187, 0, 32, 89, 183, 0, 34, 191]
abbrev dktJ16_next_1 : List UInt8 := dkwJ16_next_1 ++ []
def dkwJ16_next_0 : List UInt8 := [42, 180, 0, 17, 60, 42, 180, 0, 7, 27, 185, 0, 24, 2, 0, 77, 42, 27, 4, 96, 181, 0, 17, 44]
abbrev dktJ16_next_0 : List UInt8 := dkwJ16_next_0 ++ dktJ16_next_1
theorem dksJ16_next_0 : cJ16_next.data.toList.drop 0 = dktJ16_next_0 := by decide +kernel
theorem dksJ16_next_1 : cJ16_next.data.toList.drop 24 = dktJ16_next_1 := dk_seg dksJ16_next_0 24 rfl rfl
theorem dJ16_next_0 : decode cJ16_next 0 = .ok (.aload_n 0, 1) := dk_42 (dk_at dksJ16_next_0 0 rfl rfl)
theorem dJ16_next_1 : decode cJ16_next 1 = .ok (.getfield 17, 3) := dk_180 0 17 (dk_at dksJ16_next_0 1 rfl rfl)
theorem dJ16_next_4 : decode cJ16_next 4 = .ok (.istore_n 1, 1) := dk_60 (dk_at dksJ16_next_0 4 rfl rfl)
theorem dJ16_next_5 : decode cJ16_next 5 = .ok (.aload_n 0, 1) := dk_42 (dk_at dksJ16_next_0 5 rfl rfl)
theorem dJ16_next_6 : decode cJ16_next 6 = .ok (.getfield 7, 3) := dk_180 0 7 (dk_at dksJ16_next_0 6 rfl rfl)
theorem dJ16_next_9 : decode cJ16_next 9 = .ok (.iload_n 1, 1) := dk_27 (dk_at dksJ16_next_0 9 rfl rfl)
theorem dJ16_next_10 : decode cJ16_next 10 = .ok (.invokeinterface 24 2, 5) := by decide +kernel
theorem dJ16_next_15 : decode cJ16_next 15 = .ok (.astore_n 2, 1) := dk_77 (dk_at dksJ16_next_0 15 rfl rfl)
theorem dJ16_next_16 : decode cJ16_next 16 = .ok (.aload_n 0, 1) := dk_42 (dk_at dksJ16_next_0 16 rfl rfl)
theorem dJ16_next_17 : decode cJ16_next 17 = .ok (.iload_n 1, 1) := dk_27 (dk_at dksJ16_next_0 17 rfl rfl)
theorem dJ16_next_18 : decode cJ16_next 18 = .ok (.iconst 1, 1) := dk_4 (dk_at dksJ16_next_0 18 rfl rfl)
theorem dJ16_next_19 : decode cJ16_next 19 = .ok (.iadd, 1) := dk_96 (dk_at dksJ16_next_0 19 rfl rfl)
theorem dJ16_next_20 : decode cJ16_next 20 = .ok (.putfield 17, 3) := dk_181 0 17 (dk_at dksJ16_next_0 20 rfl rfl)
theorem dJ16_next_23 : decode cJ16_next 23 = .ok (.aload_n 2, 1) := dk_44 (dk_at dksJ16_next_0 23 rfl rfl)
theorem dJ16_next_24 : decode cJ16_next 24 = .ok (.areturn, 1) := dk_176 (dk_at dksJ16_next_1 0 rfl rfl)
theorem dJ16_next_25 : decode cJ16_next 25 = .ok (.astore_n 1, 1) := dk_76 (dk_at dksJ16_next_1 1 rfl rfl)
theorem dJ16_next_26 : decode cJ16_next 26 = .ok (.new 32, 3) := dk_187 0 32 (dk_at dksJ16_next_1 2 rfl rfl)
theorem dJ16_next_29 : decode cJ16_next 29 = .ok (.dup, 1) := dk_89 (dk_at dksJ16_next_1 5 rfl rfl)
theorem dJ16_next_30 : decode cJ16_next 30 = .ok (.invokespecial 34, 3) := dk_183 0 34 (dk_at dksJ16_next_1 6 rfl rfl)
theorem dJ16_next_33 : decode cJ16_next 33 = .ok (.athrow, 1) := dk_191 (dk_at dksJ16_next_1 9 rfl rfl)
def dkwJ17_hasNext_0 : List UInt8 := [42, 180, 0, 13, 42, 180, 0, 1, 182, 0, 28, 159, 0, 7, 4, 167, 0, 4, 3, 172]
abbrev dktJ17_hasNext_0 : List UInt8 := dkwJ17_hasNext_0 ++ []
theorem dksJ17_hasNext_0 : cJ17_hasNext.data.toList.drop 0 = dktJ17_hasNext_0 := by decide +kernel
theorem dJ17_hasNext_0 : decode cJ17_hasNext 0 = .ok (.aload_n 0, 1) := dk_42 (dk_at dksJ17_hasNext_0 0 rfl rfl)
theorem dJ17_hasNext_1 : decode cJ17_hasNext 1 = .ok (.getfield 13, 3) := dk_180 0 13 (dk_at dksJ17_hasNext_0 1 rfl rfl)
theorem dJ17_hasNext_4 : decode cJ17_hasNext 4 = .ok (.aload_n 0, 1) := dk_42 (dk_at dksJ17_hasNext_0 4 rfl rfl)
theorem dJ17_hasNext_5 : decode cJ17_hasNext 5 = .ok (.getfield 1, 3) := dk_180 0 1 (dk_at dksJ17_hasNext_0 5 rfl rfl)
theorem dJ17_hasNext_8 : decode cJ17_hasNext 8 = .ok (.invokevirtual 28, 3) := dk_182 0 28 (dk_at dksJ17_hasNext_0 8 rfl rfl)
theorem dJ17_hasNext_11 : decode cJ17_hasNext 11 = .ok (.if_icmp .eq 7, 3) := dk_159 0 7 (dk_at dksJ17_hasNext_0 11 rfl rfl)
theorem dJ17_hasNext_14 : decode cJ17_hasNext 14 = .ok (.iconst 1, 1) := dk_4 (dk_at dksJ17_hasNext_0 14 rfl rfl)
theorem dJ17_hasNext_15 : decode cJ17_hasNext 15 = .ok (.goto 4, 3) := dk_167 0 4 (dk_at dksJ17_hasNext_0 15 rfl rfl)
theorem dJ17_hasNext_18 : decode cJ17_hasNext 18 = .ok (.iconst 0, 1) := dk_3 (dk_at dksJ17_hasNext_0 18 rfl rfl)
theorem dJ17_hasNext_19 : decode cJ17_hasNext 19 = .ok (.ireturn, 1) := dk_172 (dk_at dksJ17_hasNext_0 19 rfl rfl)
def dkwJ17_next_1 : List UInt8 := [27, 4, 96, 181, 0, 13, 44, 176, 76, 42, 182, 0, 32, 187, 0, 41, 89, 43, 183, 0, 43, 191]
abbrev dktJ17_next_1 : List UInt8 := dkwJ17_next_1 ++ []
def dkwJ17_next_0 : List UInt8 := [42, 182, 0, 32, 42, 180, 0, 13, 60, 42, 180, 0, 1, 27, 182, 0, 35, 77, 42, 27, 181, 0, 17, 42]
abbrev dktJ17_next_0 : List UInt8 := dkwJ17_next_0 ++ dktJ17_next_1
theorem dksJ17_next_0 : cJ17_next.data.toList.drop 0 = dktJ17_next_0 := by decide +kernel
theorem dksJ17_next_1 : cJ17_next.data.toList.drop 24 = dktJ17_next_1 := dk_seg dksJ17_next_0 24 rfl rfl
theorem dJ17_next_0 : decode cJ17_next 0 = .ok (.aload_n 0, 1) := dk_42 (dk_at dksJ17_next_0 0 rfl rfl)
theorem dJ17_next_1 : decode cJ17_next 1 = .ok (.invokevirtual 32, 3) := dk_182 0 32 (dk_at dksJ17_next_0 1 rfl rfl)
theorem dJ17_next_4 : decode cJ17_next 4 = .ok (.aload_n 0, 1) := dk_42 (dk_at dksJ17_next_0 4 rfl rfl)
theorem dJ17_next_5 : decode cJ17_next 5 = .ok (.getfield 13, 3) := dk_180 0 13 (dk_at dksJ17_next_0 5 rfl rfl)
theorem dJ17_next_8 : decode cJ17_next 8 = .ok (.istore_n 1, 1) := dk_60 (dk_at dksJ17_next_0 8 rfl rfl)
theorem dJ17_next_9 : decode cJ17_next 9 = .ok (.aload_n 0, 1) := dk_42 (dk_at dksJ17_next_0 9 rfl rfl)
theorem dJ17_next_10 : decode cJ17_next 10 = .ok (.getfield 1, 3) := dk_180 0 1 (dk_at dksJ17_next_0 10 rfl rfl)
theorem dJ17_next_13 : decode cJ17_next 13 = .ok (.iload_n 1, 1) := dk_27 (dk_at dksJ17_next_0 13 rfl rfl)
theorem dJ17_next_14 : decode cJ17_next 14 = .ok (.invokevirtual 35, 3) := dk_182 0 35 (dk_at dksJ17_next_0 14 rfl rfl)
theorem dJ17_next_17 : decode cJ17_next 17 = .ok (.astore_n 2, 1) := dk_77 (dk_at dksJ17_next_0 17 rfl rfl)
theorem dJ17_next_18 : decode cJ17_next 18 = .ok (.aload_n 0, 1) := dk_42 (dk_at dksJ17_next_0 18 rfl rfl)
theorem dJ17_next_19 : decode cJ17_next 19 = .ok (.iload_n 1, 1) := dk_27 (dk_at dksJ17_next_0 19 rfl rfl)
theorem dJ17_next_20 : decode cJ17_next 20 = .ok (.putfield 17, 3) := dk_181 0 17 (dk_at dksJ17_next_0 20 rfl rfl)
theorem dJ17_next_23 : decode cJ17_next 23 = .ok (.aload_n 0, 1) := dk_42 (dk_at dksJ17_next_0 23 rfl rfl)
theorem dJ17_next_24 : decode cJ17_next 24 = .ok (.iload_n 1, 1) := dk_27 (dk_at dksJ17_next_1 0 rfl rfl)
theorem dJ17_next_25 : decode cJ17_next 25 = .ok (.iconst 1, 1) := dk_4 (dk_at dksJ17_next_1 1 rfl rfl)
theorem dJ17_next_26 : decode cJ17_next 26 = .ok (.iadd, 1) := dk_96 (dk_at dksJ17_next_1 2 rfl rfl)
theorem dJ17_next_27 : decode cJ17_next 27 = .ok (.putfield 13, 3) := dk_181 0 13 (dk_at dksJ17_next_1 3 rfl rfl)
theorem dJ17_next_30 : decode cJ17_next 30 = .ok (.aload_n 2, 1) := dk_44 (dk_at dksJ17_next_1 6 rfl rfl)
theorem dJ17_next_31 : decode cJ17_next 31 = .ok (.areturn, 1) := dk_176 (dk_at dksJ17_next_1 7 rfl rfl)
theorem dJ17_next_32 : decode cJ17_next 32 = .ok (.astore_n 1, 1) := dk_76 (dk_at dksJ17_next_1 8 rfl rfl)
theorem dJ17_next_33 : decode cJ17_next 33 = .ok (.aload_n 0, 1) := dk_42 (dk_at dksJ17_next_1 9 rfl rfl)
theorem dJ17_next_34 : decode cJ17_next 34 = .ok (.invokevirtual 32, 3) := dk_182 0 32 (dk_at dksJ17_next_1 10 rfl rfl)
theorem dJ17_next_37 : decode cJ17_next 37 = .ok (.new 41, 3) := dk_187 0 41 (dk_at dksJ17_next_1 13 rfl rfl)
theorem dJ17_next_40 : decode cJ17_next 40 = .ok (.dup, 1) := dk_89 (dk_at dksJ17_next_1 16 rfl rfl)
theorem dJ17_next_41 : decode cJ17_next 41 = .ok (.aload_n 1, 1) := dk_43 (dk_at dksJ17_next_1 17 rfl rfl)
theorem dJ17_next_42 : decode cJ17_next 42 = .ok (.invokespecial 43, 3) := dk_183 0 43 (dk_at dksJ17_next_1 18 rfl rfl)
theorem dJ17_next_45 : decode cJ17_next 45 = .ok (.athrow, 1) := dk_191 (dk_at dksJ17_next_1 21 rfl rfl)
def dkwJ17_checkForComodification_0 : List UInt8 := [42, 180, 0, 1, 180, 0, 20, 42, 180, 0, 25, 159, 0, 11, 187, 0, 52, 89, 183, 0, 54, 191, 177]
abbrev dktJ17_checkForComodification_0 : List UInt8 := dkwJ17_checkForComodification_0 ++ []
theorem dksJ17_checkForComodification_0 : cJ17_checkForComodification.data.toList.drop 0 = dktJ17_checkForComodification_0 := by decide +kernel
theorem dJ17_checkForComodification_0 : decode cJ17_checkForComodification 0 = .ok (.aload_n 0, 1) := dk_42 (dk_at dksJ17_checkForComodification_0 0 rfl rfl)
theorem dJ17_checkForComodification_1 : decode cJ17_checkForComodification 1 = .ok (.getfield 1, 3) := dk_180 0 1 (dk_at dksJ17_checkForComodification_0 1 rfl rfl)
theorem dJ17_checkForComodification_4 : decode cJ17_checkForComodification 4 = .ok (.getfield 20, 3) := dk_180 0 20 (dk_at dksJ17_checkForComodification_0 4 rfl rfl)
theorem dJ17_checkForComodification_7 : decode cJ17_checkForComodification 7 = .ok (.aload_n 0, 1) := dk_42 (dk_at dksJ17_checkForComodification_0 7 rfl rfl)
theorem dJ17_checkForComodification_8 : decode cJ17_checkForComodification 8 = .ok (.getfield 25, 3) := dk_180 0 25 (dk_at dksJ17_checkForComodification_0 8 rfl rfl)
theorem dJ17_checkForComodification_11 : decode cJ17_checkForComodification 11 = .ok (.if_icmp .eq 11, 3) := dk_159 0 11 (dk_at dksJ17_checkForComodification_0 11 rfl rfl)
theorem dJ17_checkForComodification_14 : decode cJ17_checkForComodification 14 = .ok (.new 52, 3) := dk_187 0 52 (dk_at dksJ17_checkForComodification_0 14 rfl rfl)
theorem dJ17_checkForComodification_17 : decode cJ17_checkForComodification 17 = .ok (.dup, 1) := dk_89 (dk_at dksJ17_checkForComodification_0 17 rfl rfl)
theorem dJ17_checkForComodification_18 : decode cJ17_checkForComodification 18 = .ok (.invokespecial 54, 3) := dk_183 0 54 (dk_at dksJ17_checkForComodification_0 18 rfl rfl)
theorem dJ17_checkForComodification_21 : decode cJ17_checkForComodification 21 = .ok (.athrow, 1) := dk_191 (dk_at dksJ17_checkForComodification_0 21 rfl rfl)
theorem dJ17_checkForComodification_22 : decode cJ17_checkForComodification 22 = .ok (.return_, 1) := dk_177 (dk_at dksJ17_checkForComodification_0 22 rfl rfl)
def dkwJ18_init_1 : List UInt8 := [180, 0, 22, 160, 0, 7, 1, 167, 0, 8, 43, 28, 182, 0, 25, 181, 0, 29, 42, 28, 181, 0, 33, 177]
abbrev dktJ18_init_1 : List UInt8 := dkwJ18_init_1 ++ []
def dkwJ18_init_0 : List UInt8 := [42, 43, 181, 0, 1, 42, 183, 0, 7, 42, 42, 180, 0, 1, 180, 0, 13, 181, 0, 19, 42, 28, 43]
abbrev dktJ18_init_0 : List UInt8 := dkwJ18_init_0 ++ dktJ18_init_1
theorem dksJ18_init_0 : cJ18_init.data.toList.drop 0 = dktJ18_init_0 := by decide +kernel
theorem dksJ18_init_1 : cJ18_init.data.toList.drop 23 = dktJ18_init_1 := dk_seg dksJ18_init_0 23 rfl rfl
theorem dJ18_init_0 : decode cJ18_init 0 = .ok (.aload_n 0, 1) := dk_42 (dk_at dksJ18_init_0 0 rfl rfl)
theorem dJ18_init_1 : decode cJ18_init 1 = .ok (.aload_n 1, 1) := dk_43 (dk_at dksJ18_init_0 1 rfl rfl)
theorem dJ18_init_2 : decode cJ18_init 2 = .ok (.putfield 1, 3) := dk_181 0 1 (dk_at dksJ18_init_0 2 rfl rfl)
theorem dJ18_init_5 : decode cJ18_init 5 = .ok (.aload_n 0, 1) := dk_42 (dk_at dksJ18_init_0 5 rfl rfl)
theorem dJ18_init_6 : decode cJ18_init 6 = .ok (.invokespecial 7, 3) := dk_183 0 7 (dk_at dksJ18_init_0 6 rfl rfl)
theorem dJ18_init_9 : decode cJ18_init 9 = .ok (.aload_n 0, 1) := dk_42 (dk_at dksJ18_init_0 9 rfl rfl)
theorem dJ18_init_10 : decode cJ18_init 10 = .ok (.aload_n 0, 1) := dk_42 (dk_at dksJ18_init_0 10 rfl rfl)
theorem dJ18_init_11 : decode cJ18_init 11 = .ok (.getfield 1, 3) := dk_180 0 1 (dk_at dksJ18_init_0 11 rfl rfl)
theorem dJ18_init_14 : decode cJ18_init 14 = .ok (.getfield 13, 3) := dk_180 0 13 (dk_at dksJ18_init_0 14 rfl rfl)
theorem dJ18_init_17 : decode cJ18_init 17 = .ok (.putfield 19, 3) := dk_181 0 19 (dk_at dksJ18_init_0 17 rfl rfl)
theorem dJ18_init_20 : decode cJ18_init 20 = .ok (.aload_n 0, 1) := dk_42 (dk_at dksJ18_init_0 20 rfl rfl)
theorem dJ18_init_21 : decode cJ18_init 21 = .ok (.iload_n 2, 1) := dk_28 (dk_at dksJ18_init_0 21 rfl rfl)
theorem dJ18_init_22 : decode cJ18_init 22 = .ok (.aload_n 1, 1) := dk_43 (dk_at dksJ18_init_0 22 rfl rfl)
theorem dJ18_init_23 : decode cJ18_init 23 = .ok (.getfield 22, 3) := dk_180 0 22 (dk_at dksJ18_init_1 0 rfl rfl)
theorem dJ18_init_26 : decode cJ18_init 26 = .ok (.if_icmp .ne 7, 3) := dk_160 0 7 (dk_at dksJ18_init_1 3 rfl rfl)
theorem dJ18_init_29 : decode cJ18_init 29 = .ok (.aconst_null, 1) := dk_1 (dk_at dksJ18_init_1 6 rfl rfl)
theorem dJ18_init_30 : decode cJ18_init 30 = .ok (.goto 8, 3) := dk_167 0 8 (dk_at dksJ18_init_1 7 rfl rfl)
theorem dJ18_init_33 : decode cJ18_init 33 = .ok (.aload_n 1, 1) := dk_43 (dk_at dksJ18_init_1 10 rfl rfl)
theorem dJ18_init_34 : decode cJ18_init 34 = .ok (.iload_n 2, 1) := dk_28 (dk_at dksJ18_init_1 11 rfl rfl)
theorem dJ18_init_35 : decode cJ18_init 35 = .ok (.invokevirtual 25, 3) := dk_182 0 25 (dk_at dksJ18_init_1 12 rfl rfl)
theorem dJ18_init_38 : decode cJ18_init 38 = .ok (.putfield 29, 3) := dk_181 0 29 (dk_at dksJ18_init_1 15 rfl rfl)
theorem dJ18_init_41 : decode cJ18_init 41 = .ok (.aload_n 0, 1) := dk_42 (dk_at dksJ18_init_1 18 rfl rfl)
theorem dJ18_init_42 : decode cJ18_init 42 = .ok (.iload_n 2, 1) := dk_28 (dk_at dksJ18_init_1 19 rfl rfl)
theorem dJ18_init_43 : decode cJ18_init 43 = .ok (.putfield 33, 3) := dk_181 0 33 (dk_at dksJ18_init_1 20 rfl rfl)
theorem dJ18_init_46 : decode cJ18_init 46 = .ok (.return_, 1) := dk_177 (dk_at dksJ18_init_1 23 rfl rfl)
def dkwJ18_hasNext_0 : List UInt8 := [42, 180, 0, 33, 42, 180, 0, 1, 180, 0, 22, 162, 0, 7, 4, 167, 0, 4, 3, 172]
abbrev dktJ18_hasNext_0 : List UInt8 := dkwJ18_hasNext_0 ++ []
theorem dksJ18_hasNext_0 : cJ18_hasNext.data.toList.drop 0 = dktJ18_hasNext_0 := by decide +kernel
theorem dJ18_hasNext_0 : decode cJ18_hasNext 0 = .ok (.aload_n 0, 1) := dk_42 (dk_at dksJ18_hasNext_0 0 rfl rfl)
theorem dJ18_hasNext_1 : decode cJ18_hasNext 1 = .ok (.getfield 33, 3) := dk_180 0 33 (dk_at dksJ18_hasNext_0 1 rfl rfl)
theorem dJ18_hasNext_4 : decode cJ18_hasNext 4 = .ok (.aload_n 0, 1) := dk_42 (dk_at dksJ18_hasNext_0 4 rfl rfl)
theorem dJ18_hasNext_5 : decode cJ18_hasNext 5 = .ok (.getfield 1, 3) := dk_180 0 1 (dk_at dksJ18_hasNext_0 5 rfl rfl)
theorem dJ18_hasNext_8 : decode cJ18_hasNext 8 = .ok (.getfield 22, 3) := dk_180 0 22 (dk_at dksJ18_hasNext_0 8 rfl rfl)
theorem dJ18_hasNext_11 : decode cJ18_hasNext 11 = .ok (.if_icmp .ge 7, 3) := dk_162 0 7 (dk_at dksJ18_hasNext_0 11 rfl rfl)
theorem dJ18_hasNext_14 : decode cJ18_hasNext 14 = .ok (.iconst 1, 1) := dk_4 (dk_at dksJ18_hasNext_0 14 rfl rfl)
theorem dJ18_hasNext_15 : decode cJ18_hasNext 15 = .ok (.goto 4, 3) := dk_167 0 4 (dk_at dksJ18_hasNext_0 15 rfl rfl)
theorem dJ18_hasNext_18 : decode cJ18_hasNext 18 = .ok (.iconst 0, 1) := dk_3 (dk_at dksJ18_hasNext_0 18 rfl rfl)
theorem dJ18_hasNext_19 : decode cJ18_hasNext 19 = .ok (.ireturn, 1) := dk_172 (dk_at dksJ18_hasNext_0 19 rfl rfl)
def dkwJ18_next_2 : List UInt8 := [42, 180, 0, 46, 180, 0, 52, 176]
abbrev dktJ18_next_2 : List UInt8 := dkwJ18_next_2 ++ []
def dkwJ18_next_1 : List UInt8 := [181, 0, 46, 42, 42, 180, 0, 29, 180, 0, 49, 181, 0, 29, 42, 89, 180, 0, 33, 4, 96, 181, 0, 33]
abbrev dktJ18_next_1 : List UInt8 := dkwJ18_next_1 ++ dktJ18_next_2
def dkwJ18_next_0 : List UInt8 := [42, 182, 0, 36, 42, 182, 0, 39, 154, 0, 11, 187, 0, 43, 89, 183, 0, 45, 191, 42, 42, 180, 0, 29]
abbrev dktJ18_next_0 : List UInt8 := dkwJ18_next_0 ++ dktJ18_next_1
theorem dksJ18_next_0 : cJ18_next.data.toList.drop 0 = dktJ18_next_0 := by decide +kernel
theorem dksJ18_next_1 : cJ18_next.data.toList.drop 24 = dktJ18_next_1 := dk_seg dksJ18_next_0 24 rfl rfl
theorem dksJ18_next_2 : cJ18_next.data.toList.drop 48 = dktJ18_next_2 := dk_seg dksJ18_next_1 24 rfl rfl
theorem dJ18_next_0 : decode cJ18_next 0 = .ok (.aload_n 0, 1) := dk_42 (dk_at dksJ18_next_0 0 rfl rfl)
theorem dJ18_next_1 : decode cJ18_next 1 = .ok (.invokevirtual 36, 3) := dk_182 0 36 (dk_at dksJ18_next_0 1 rfl rfl)
theorem dJ18_next_4 : decode cJ18_next 4 = .ok (.aload_n 0, 1) := dk_42 (dk_at dksJ18_next_0 4 rfl rfl)
theorem dJ18_next_5 : decode cJ18_next 5 = .ok (.invokevirtual 39, 3) := dk_182 0 39 (dk_at dksJ18_next_0 5 rfl rfl)
theorem dJ18_next_8 : decode cJ18_next 8 = .ok (.ifCond .ne 11, 3) := dk_154 0 11 (dk_at dksJ18_next_0 8 rfl rfl)
theorem dJ18_next_11 : decode cJ18_next 11 = .ok (.new 43, 3) := dk_187 0 43 (dk_at dksJ18_next_0 11 rfl rfl)
theorem dJ18_next_14 : decode cJ18_next 14 = .ok (.dup, 1) := dk_89 (dk_at dksJ18_next_0 14 rfl rfl)
theorem dJ18_next_15 : decode cJ18_next 15 = .ok (.invokespecial 45, 3) := dk_183 0 45 (dk_at dksJ18_next_0 15 rfl rfl)
theorem dJ18_next_18 : decode cJ18_next 18 = .ok (.athrow, 1) := dk_191 (dk_at dksJ18_next_0 18 rfl rfl)
theorem dJ18_next_19 : decode cJ18_next 19 = .ok (.aload_n 0, 1) := dk_42 (dk_at dksJ18_next_0 19 rfl rfl)
theorem dJ18_next_20 : decode cJ18_next 20 = .ok (.aload_n 0, 1) := dk_42 (dk_at dksJ18_next_0 20 rfl rfl)
theorem dJ18_next_21 : decode cJ18_next 21 = .ok (.getfield 29, 3) := dk_180 0 29 (dk_at dksJ18_next_0 21 rfl rfl)
theorem dJ18_next_24 : decode cJ18_next 24 = .ok (.putfield 46, 3) := dk_181 0 46 (dk_at dksJ18_next_1 0 rfl rfl)
theorem dJ18_next_27 : decode cJ18_next 27 = .ok (.aload_n 0, 1) := dk_42 (dk_at dksJ18_next_1 3 rfl rfl)
theorem dJ18_next_28 : decode cJ18_next 28 = .ok (.aload_n 0, 1) := dk_42 (dk_at dksJ18_next_1 4 rfl rfl)
theorem dJ18_next_29 : decode cJ18_next 29 = .ok (.getfield 29, 3) := dk_180 0 29 (dk_at dksJ18_next_1 5 rfl rfl)
theorem dJ18_next_32 : decode cJ18_next 32 = .ok (.getfield 49, 3) := dk_180 0 49 (dk_at dksJ18_next_1 8 rfl rfl)
theorem dJ18_next_35 : decode cJ18_next 35 = .ok (.putfield 29, 3) := dk_181 0 29 (dk_at dksJ18_next_1 11 rfl rfl)
theorem dJ18_next_38 : decode cJ18_next 38 = .ok (.aload_n 0, 1) := dk_42 (dk_at dksJ18_next_1 14 rfl rfl)
theorem dJ18_next_39 : decode cJ18_next 39 = .ok (.dup, 1) := dk_89 (dk_at dksJ18_next_1 15 rfl rfl)
theorem dJ18_next_40 : decode cJ18_next 40 = .ok (.getfield 33, 3) := dk_180 0 33 (dk_at dksJ18_next_1 16 rfl rfl)
theorem dJ18_next_43 : decode cJ18_next 43 = .ok (.iconst 1, 1) := dk_4 (dk_at dksJ18_next_1 19 rfl rfl)
theorem dJ18_next_44 : decode cJ18_next 44 = .ok (.iadd, 1) := dk_96 (dk_at dksJ18_next_1 20 rfl rfl)
theorem dJ18_next_45 : decode cJ18_next 45 = .ok (.putfield 33, 3) := dk_181 0 33 (dk_at dksJ18_next_1 21 rfl rfl)
theorem dJ18_next_48 : decode cJ18_next 48 = .ok (.aload_n 0, 1) := dk_42 (dk_at dksJ18_next_2 0 rfl rfl)
theorem dJ18_next_49 : decode cJ18_next 49 = .ok (.getfield 46, 3) := dk_180 0 46 (dk_at dksJ18_next_2 1 rfl rfl)
theorem dJ18_next_52 : decode cJ18_next 52 = .ok (.getfield 52, 3) := dk_180 0 52 (dk_at dksJ18_next_2 4 rfl rfl)
theorem dJ18_next_55 : decode cJ18_next 55 = .ok (.areturn, 1) := dk_176 (dk_at dksJ18_next_2 7 rfl rfl)
def dkwJ18_checkForComodification_0 : List UInt8 := [42, 180, 0, 1, 180, 0, 13, 42, 180, 0, 19, 159, 0, 11, 187, 0, 91, 89, 183, 0, 93, 191, 177]
abbrev dktJ18_checkForComodification_0 : List UInt8 := dkwJ18_checkForComodification_0 ++ []
theorem dksJ18_checkForComodification_0 : cJ18_checkForComodification.data.toList.drop 0 = dktJ18_checkForComodification_0 := by decide +kernel
theorem dJ18_checkForComodification_0 : decode cJ18_checkForComodification 0 = .ok (.aload_n 0, 1) := dk_42 (dk_at dksJ18_checkForComodification_0 0 rfl rfl)
theorem dJ18_checkForComodification_1 : decode cJ18_checkForComodification 1 = .ok (.getfield 1, 3) := dk_180 0 1 (dk_at dksJ18_checkForComodification_0 1 rfl rfl)
theorem dJ18_checkForComodification_4 : decode cJ18_checkForComodification 4 = .ok (.getfield 13, 3) := dk_180 0 13 (dk_at dksJ18_checkForComodification_0 4 rfl rfl)
theorem dJ18_checkForComodification_7 : decode cJ18_checkForComodification 7 = .ok (.aload_n 0, 1) := dk_42 (dk_at dksJ18_checkForComodification_0 7 rfl rfl)
theorem dJ18_checkForComodification_8 : decode cJ18_checkForComodification 8 = .ok (.getfield 19, 3) := dk_180 0 19 (dk_at dksJ18_checkForComodification_0 8 rfl rfl)
theorem dJ18_checkForComodification_11 : decode cJ18_checkForComodification 11 = .ok (.if_icmp .eq 11, 3) := dk_159 0 11 (dk_at dksJ18_checkForComodification_0 11 rfl rfl)
theorem dJ18_checkForComodification_14 : decode cJ18_checkForComodification 14 = .ok (.new 91, 3) := dk_187 0 91 (dk_at dksJ18_checkForComodification_0 14 rfl rfl)
theorem dJ18_checkForComodification_17 : decode cJ18_checkForComodification 17 = .ok (.dup, 1) := dk_89 (dk_at dksJ18_checkForComodification_0 17 rfl rfl)
theorem dJ18_checkForComodification_18 : decode cJ18_checkForComodification 18 = .ok (.invokespecial 93, 3) := dk_183 0 93 (dk_at dksJ18_checkForComodification_0 18 rfl rfl)
theorem dJ18_checkForComodification_21 : decode cJ18_checkForComodification 21 = .ok (.athrow, 1) := dk_191 (dk_at dksJ18_checkForComodification_0 21 rfl rfl)
theorem dJ18_checkForComodification_22 : decode cJ18_checkForComodification 22 = .ok (.return_, 1) := dk_177 (dk_at dksJ18_checkForComodification_0 22 rfl rfl)
def dkwJ19_init_1 : List UInt8 := [182, 0, 27, 87, 177]
abbrev dktJ19_init_1 : List UInt8 := dkwJ19_init_1 ++ []
def dkwJ19_init_0 : List UInt8 := [42, 183, 0, 1, 42, 42, 181, 0, 7, 42, 178, 0, 13, 181, 0, 17, 42, 178, 0, 20, 181, 0, 24, 42]
abbrev dktJ19_init_0 : List UInt8 := dkwJ19_init_0 ++ dktJ19_init_1
theorem dksJ19_init_0 : cJ19_init.data.toList.drop 0 = dktJ19_init_0 := by decide +kernel
theorem dksJ19_init_1 : cJ19_init.data.toList.drop 24 = dktJ19_init_1 := dk_seg dksJ19_init_0 24 rfl rfl
theorem dJ19_init_0 : decode cJ19_init 0 = .ok (.aload_n 0, 1) := dk_42 (dk_at dksJ19_init_0 0 rfl rfl)
theorem dJ19_init_1 : decode cJ19_init 1 = .ok (.invokespecial 1, 3) := dk_183 0 1 (dk_at dksJ19_init_0 1 rfl rfl)
theorem dJ19_init_4 : decode cJ19_init 4 = .ok (.aload_n 0, 1) := dk_42 (dk_at dksJ19_init_0 4 rfl rfl)
theorem dJ19_init_5 : decode cJ19_init 5 = .ok (.aload_n 0, 1) := dk_42 (dk_at dksJ19_init_0 5 rfl rfl)
theorem dJ19_init_6 : decode cJ19_init 6 = .ok (.putfield 7, 3) := dk_181 0 7 (dk_at dksJ19_init_0 6 rfl rfl)
theorem dJ19_init_9 : decode cJ19_init 9 = .ok (.aload_n 0, 1) := dk_42 (dk_at dksJ19_init_0 9 rfl rfl)
theorem dJ19_init_10 : decode cJ19_init 10 = .ok (.getstatic 13, 3) := dk_178 0 13 (dk_at dksJ19_init_0 10 rfl rfl)
theorem dJ19_init_13 : decode cJ19_init 13 = .ok (.putfield 17, 3) := dk_181 0 17 (dk_at dksJ19_init_0 13 rfl rfl)
theorem dJ19_init_16 : decode cJ19_init 16 = .ok (.aload_n 0, 1) := dk_42 (dk_at dksJ19_init_0 16 rfl rfl)
theorem dJ19_init_17 : decode cJ19_init 17 = .ok (.getstatic 20, 3) := dk_178 0 20 (dk_at dksJ19_init_0 17 rfl rfl)
theorem dJ19_init_20 : decode cJ19_init 20 = .ok (.putfield 24, 3) := dk_181 0 24 (dk_at dksJ19_init_0 20 rfl rfl)
theorem dJ19_init_23 : decode cJ19_init 23 = .ok (.aload_n 0, 1) := dk_42 (dk_at dksJ19_init_0 23 rfl rfl)
theorem dJ19_init_24 : decode cJ19_init 24 = .ok (.invokevirtual 27, 3) := dk_182 0 27 (dk_at dksJ19_init_1 0 rfl rfl)
theorem dJ19_init_27 : decode cJ19_init 27 = .ok (.pop, 1) := dk_87 (dk_at dksJ19_init_1 3 rfl rfl)
theorem dJ19_init_28 : decode cJ19_init 28 = .ok (.return_, 1) := dk_177 (dk_at dksJ19_init_1 4 rfl rfl)
def dkwJ19_init_2_2 : List UInt8 := [181, 0, 7, 177]
abbrev dktJ19_init_2_2 : List UInt8 := dkwJ19_init_2_2 ++ []
def dkwJ19_init_2_1 : List UInt8 := [182, 0, 27, 87, 42, 43, 199, 0, 7, 1, 167, 0, 7, 43, 182, 0, 35, 181, 0, 31, 42, 43]
abbrev dktJ19_init_2_1 : List UInt8 := dkwJ19_init_2_1 ++ dktJ19_init_2_2
def dkwJ19_init_2_0 : List UInt8 := [42, 183, 0, 1, 42, 42, 181, 0, 7, 42, 178, 0, 13, 181, 0, 17, 42, 178, 0, 20, 181, 0, 24, 42]
abbrev dktJ19_init_2_0 : List UInt8 := dkwJ19_init_2_0 ++ dktJ19_init_2_1
theorem dksJ19_init_2_0 : cJ19_init_2.data.toList.drop 0 = dktJ19_init_2_0 := by decide +kernel
theorem dksJ19_init_2_1 : cJ19_init_2.data.toList.drop 24 = dktJ19_init_2_1 := dk_seg dksJ19_init_2_0 24 rfl rfl
theorem dksJ19_init_2_2 : cJ19_init_2.data.toList.drop 46 = dktJ19_init_2_2 := dk_seg dksJ19_init_2_1 22 rfl rfl
theorem dJ19_init_2_0 : decode cJ19_init_2 0 = .ok (.aload_n 0, 1) := dk_42 (dk_at dksJ19_init_2_0 0 rfl rfl)
theorem dJ19_init_2_1 : decode cJ19_init_2 1 = .ok (.invokespecial 1, 3) := dk_183 0 1 (dk_at dksJ19_init_2_0 1 rfl rfl)
theorem dJ19_init_2_4 : decode cJ19_init_2 4 = .ok (.aload_n 0, 1) := dk_42 (dk_at dksJ19_init_2_0 4 rfl rfl)
theorem dJ19_init_2_5 : decode cJ19_init_2 5 = .ok (.aload_n 0, 1) := dk_42 (dk_at dksJ19_init_2_0 5 rfl rfl)
theorem dJ19_init_2_6 : decode cJ19_init_2 6 = .ok (.putfield 7, 3) := dk_181 0 7 (dk_at dksJ19_init_2_0 6 rfl rfl)
theorem dJ19_init_2_9 : decode cJ19_init_2 9 = .ok (.aload_n 0, 1) := dk_42 (dk_at dksJ19_init_2_0 9 rfl rfl)
theorem dJ19_init_2_10 : decode cJ19_init_2 10 = .ok (.getstatic 13, 3) := dk_178 0 13 (dk_at dksJ19_init_2_0 10 rfl rfl)
theorem dJ19_init_2_13 : decode cJ19_init_2 13 = .ok (.putfield 17, 3) := dk_181 0 17 (dk_at dksJ19_init_2_0 13 rfl rfl)
theorem dJ19_init_2_16 : decode cJ19_init_2 16 = .ok (.aload_n 0, 1) := dk_42 (dk_at dksJ19_init_2_0 16 rfl rfl)
theorem dJ19_init_2_17 : decode cJ19_init_2 17 = .ok (.getstatic 20, 3) := dk_178 0 20 (dk_at dksJ19_init_2_0 17 rfl rfl)
theorem dJ19_init_2_20 : decode cJ19_init_2 20 = .ok (.putfield 24, 3) := dk_181 0 24 (dk_at dksJ19_init_2_0 20 rfl rfl)
theorem dJ19_init_2_23 : decode cJ19_init_2 23 = .ok (.aload_n 0, 1) := dk_42 (dk_at dksJ19_init_2_0 23 rfl rfl)
theorem dJ19_init_2_24 : decode cJ19_init_2 24 = .ok (.invokevirtual 27, 3) := dk_182 0 27 (dk_at dksJ19_init_2_1 0 rfl rfl)
theorem dJ19_init_2_27 : decode cJ19_init_2 27 = .ok (.pop, 1) := dk_87 (dk_at dksJ19_init_2_1 3 rfl rfl)
theorem dJ19_init_2_28 : decode cJ19_init_2 28 = .ok (.aload_n 0, 1) := dk_42 (dk_at dksJ19_init_2_1 4 rfl rfl)
theorem dJ19_init_2_29 : decode cJ19_init_2 29 = .ok (.aload_n 1, 1) := dk_43 (dk_at dksJ19_init_2_1 5 rfl rfl)
theorem dJ19_init_2_30 : decode cJ19_init_2 30 = .ok (.ifnonnull 7, 3) := dk_199 0 7 (dk_at dksJ19_init_2_1 6 rfl rfl)
theorem dJ19_init_2_33 : decode cJ19_init_2 33 = .ok (.aconst_null, 1) := dk_1 (dk_at dksJ19_init_2_1 9 rfl rfl)
theorem dJ19_init_2_34 : decode cJ19_init_2 34 = .ok (.goto 7, 3) := dk_167 0 7 (dk_at dksJ19_init_2_1 10 rfl rfl)
theorem dJ19_init_2_37 : decode cJ19_init_2 37 = .ok (.aload_n 1, 1) := dk_43 (dk_at dksJ19_init_2_1 13 rfl rfl)
theorem dJ19_init_2_38 : decode cJ19_init_2 38 = .ok (.invokevirtual 35, 3) := dk_182 0 35 (dk_at dksJ19_init_2_1 14 rfl rfl)
theorem dJ19_init_2_41 : decode cJ19_init_2 41 = .ok (.putfield 31, 3) := dk_181 0 31 (dk_at dksJ19_init_2_1 17 rfl rfl)
theorem dJ19_init_2_44 : decode cJ19_init_2 44 = .ok (.aload_n 0, 1) := dk_42 (dk_at dksJ19_init_2_1 20 rfl rfl)
theorem dJ19_init_2_45 : decode cJ19_init_2 45 = .ok (.aload_n 1, 1) := dk_43 (dk_at dksJ19_init_2_1 21 rfl rfl)
theorem dJ19_init_2_46 : decode cJ19_init_2 46 = .ok (.putfield 7, 3) := dk_181 0 7 (dk_at dksJ19_init_2_2 0 rfl rfl)
theorem dJ19_init_2_49 : decode cJ19_init_2 49 = .ok (.return_, 1) := dk_177 (dk_at dksJ19_init_2_2 3 rfl rfl)
def dkwJ19_toString_1 : List UInt8 := [43, 182, 0, 49, 18, 81, 182, 0, 49, 44, 182, 0, 49, 182, 0, 60, 167, 0, 4, 43, 176]
abbrev dktJ19_toString_1 : List UInt8 := dkwJ19_toString_1 ++ []
def dkwJ19_toString_0 : List UInt8 := [42, 182, 0, 69, 182, 0, 73, 76, 42, 182, 0, 78, 77, 44, 198, 0, 29, 187, 0, 44, 89, 183, 0, 46]
abbrev dktJ19_toString_0 : List UInt8 := dkwJ19_toString_0 ++ dktJ19_toString_1
theorem dksJ19_toString_0 : cJ19_toString.data.toList.drop 0 = dktJ19_toString_0 := by decide +kernel
theorem dksJ19_toString_1 : cJ19_toString.data.toList.drop 24 = dktJ19_toString_1 := dk_seg dksJ19_toString_0 24 rfl rfl
theorem dJ19_toString_0 : decode cJ19_toString 0 = .ok (.aload_n 0, 1) := dk_42 (dk_at dksJ19_toString_0 0 rfl rfl)
theorem dJ19_toString_1 : decode cJ19_toString 1 = .ok (.invokevirtual 69, 3) := dk_182 0 69 (dk_at dksJ19_toString_0 1 rfl rfl)
theorem dJ19_toString_4 : decode cJ19_toString 4 = .ok (.invokevirtual 73, 3) := dk_182 0 73 (dk_at dksJ19_toString_0 4 rfl rfl)
theorem dJ19_toString_7 : decode cJ19_toString 7 = .ok (.astore_n 1, 1) := dk_76 (dk_at dksJ19_toString_0 7 rfl rfl)
theorem dJ19_toString_8 : decode cJ19_toString 8 = .ok (.aload_n 0, 1) := dk_42 (dk_at dksJ19_toString_0 8 rfl rfl)
theorem dJ19_toString_9 : decode cJ19_toString 9 = .ok (.invokevirtual 78, 3) := dk_182 0 78 (dk_at dksJ19_toString_0 9 rfl rfl)
theorem dJ19_toString_12 : decode cJ19_toString 12 = .ok (.astore_n 2, 1) := dk_77 (dk_at dksJ19_toString_0 12 rfl rfl)
theorem dJ19_toString_13 : decode cJ19_toString 13 = .ok (.aload_n 2, 1) := dk_44 (dk_at dksJ19_toString_0 13 rfl rfl)
theorem dJ19_toString_14 : decode cJ19_toString 14 = .ok (.ifnull 29, 3) := dk_198 0 29 (dk_at dksJ19_toString_0 14 rfl rfl)
theorem dJ19_toString_17 : decode cJ19_toString 17 = .ok (.new 44, 3) := dk_187 0 44 (dk_at dksJ19_toString_0 17 rfl rfl)
theorem dJ19_toString_20 : decode cJ19_toString 20 = .ok (.dup, 1) := dk_89 (dk_at dksJ19_toString_0 20 rfl rfl)
theorem dJ19_toString_21 : decode cJ19_toString 21 = .ok (.invokespecial 46, 3) := dk_183 0 46 (dk_at dksJ19_toString_0 21 rfl rfl)
theorem dJ19_toString_24 : decode cJ19_toString 24 = .ok (.aload_n 1, 1) := dk_43 (dk_at dksJ19_toString_1 0 rfl rfl)
theorem dJ19_toString_25 : decode cJ19_toString 25 = .ok (.invokevirtual 49, 3) := dk_182 0 49 (dk_at dksJ19_toString_1 1 rfl rfl)
theorem dJ19_toString_28 : decode cJ19_toString 28 = .ok (.ldc 81, 2) := dk_18 81 (dk_at dksJ19_toString_1 4 rfl rfl)
theorem dJ19_toString_30 : decode cJ19_toString 30 = .ok (.invokevirtual 49, 3) := dk_182 0 49 (dk_at dksJ19_toString_1 6 rfl rfl)
theorem dJ19_toString_33 : decode cJ19_toString 33 = .ok (.aload_n 2, 1) := dk_44 (dk_at dksJ19_toString_1 9 rfl rfl)
theorem dJ19_toString_34 : decode cJ19_toString 34 = .ok (.invokevirtual 49, 3) := dk_182 0 49 (dk_at dksJ19_toString_1 10 rfl rfl)
theorem dJ19_toString_37 : decode cJ19_toString 37 = .ok (.invokevirtual 60, 3) := dk_182 0 60 (dk_at dksJ19_toString_1 13 rfl rfl)
theorem dJ19_toString_40 : decode cJ19_toString 40 = .ok (.goto 4, 3) := dk_167 0 4 (dk_at dksJ19_toString_1 16 rfl rfl)
theorem dJ19_toString_43 : decode cJ19_toString 43 = .ok (.aload_n 1, 1) := dk_43 (dk_at dksJ19_toString_1 19 rfl rfl)
theorem dJ19_toString_44 : decode cJ19_toString 44 = .ok (.areturn, 1) := dk_176 (dk_at dksJ19_toString_1 20 rfl rfl)
theorem dJ19_getLocalizedMessage_0 : decode cJ19_getLocalizedMessage 0 = .ok (.aload_n 0, 1) := by decide +kernel
theorem dJ19_getLocalizedMessage_1 : decode cJ19_getLocalizedMessage 1 = .ok (.invokevirtual 39, 3) := by decide +kernel
theorem dJ19_getLocalizedMessage_4 : decode cJ19_getLocalizedMessage 4 = .ok (.areturn, 1) := by decide +kernel
theorem dJ19_getMessage_0 : decode cJ19_getMessage 0 = .ok (.aload_n 0, 1) := by decide +kernel
theorem dJ19_getMessage_1 : decode cJ19_getMessage 1 = .ok (.getfield 31, 3) := by decide +kernel
theorem dJ19_getMessage_4 : decode cJ19_getMessage 4 = .ok (.areturn, 1) := by decide +kernel
def dkwJ20_init_0 : List UInt8 := [42, 43, 183, 0, 13, 177]
abbrev dktJ20_init_0 : List UInt8 := dkwJ20_init_0 ++ []
theorem dksJ20_init_0 : cJ20_init.data.toList.drop 0 = dktJ20_init_0 := by decide +kernel
theorem dJ20_init_0 : decode cJ20_init 0 = .ok (.aload_n 0, 1) := dk_42 (dk_at dksJ20_init_0 0 rfl rfl)
theorem dJ20_init_1 : decode cJ20_init 1 = .ok (.aload_n 1, 1) := dk_43 (dk_at dksJ20_init_0 1 rfl rfl)
theorem dJ20_init_2 : decode cJ20_init 2 = .ok (.invokespecial 13, 3) := dk_183 0 13 (dk_at dksJ20_init_0 2 rfl rfl)
theorem dJ20_init_5 : decode cJ20_init 5 = .ok (.return_, 1) := dk_177 (dk_at dksJ20_init_0 5 rfl rfl)
theorem dJ20_init_2_0 : decode cJ20_init_2 0 = .ok (.aload_n 0, 1) := by decide +kernel
theorem dJ20_init_2_1 : decode cJ20_init_2 1 = .ok (.invokespecial 1, 3) := by decide +kernel
theorem dJ20_init_2_4 : decode cJ20_init_2 4 = .ok (.return_, 1) := by decide +kernel
def dkwJ21_init_0 : List UInt8 := [42, 43, 183, 0, 13, 177]
abbrev dktJ21_init_0 : List UInt8 := dkwJ21_init_0 ++ []
theorem dksJ21_init_0 : cJ21_init.data.toList.drop 0 = dktJ21_init_0 := by decide +kernel
theorem dJ21_init_0 : decode cJ21_init 0 = .ok (.aload_n 0, 1) := dk_42 (dk_at dksJ21_init_0 0 rfl rfl)
theorem dJ21_init_1 : decode cJ21_init 1 = .ok (.aload_n 1, 1) := dk_43 (dk_at dksJ21_init_0 1 rfl rfl)
theorem dJ21_init_2 : decode cJ21_init 2 = .ok (.invokespecial 13, 3) := dk_183 0 13 (dk_at dksJ21_init_0 2 rfl rfl)
theorem dJ21_init_5 : decode cJ21_init 5 = .ok (.return_, 1) := dk_177 (dk_at dksJ21_init_0 5 rfl rfl)
theorem dJ21_init_2_0 : decode cJ21_init_2 0 = .ok (.aload_n 0, 1) := by decide +kernel
theorem dJ21_init_2_1 : decode cJ21_init_2 1 = .ok (.invokespecial 1, 3) := by decide +kernel
theorem dJ21_init_2_4 : decode cJ21_init_2 4 = .ok (.return_, 1) := by decide +kernel
def dkwJ22_init_0 : List UInt8 := [42, 43, 183, 0, 10, 177]
abbrev dktJ22_init_0 : List UInt8 := dkwJ22_init_0 ++ []
theorem dksJ22_init_0 : cJ22_init.data.toList.drop 0 = dktJ22_init_0 := by decide +kernel
theorem dJ22_init_0 : decode cJ22_init 0 = .ok (.aload_n 0, 1) := dk_42 (dk_at dksJ22_init_0 0 rfl rfl)
theorem dJ22_init_1 : decode cJ22_init 1 = .ok (.aload_n 1, 1) := dk_43 (dk_at dksJ22_init_0 1 rfl rfl)
theorem dJ22_init_2 : decode cJ22_init 2 = .ok (.invokespecial 10, 3) := dk_183 0 10 (dk_at dksJ22_init_0 2 rfl rfl)
theorem dJ22_init_5 : decode cJ22_init 5 = .ok (.return_, 1) := dk_177 (dk_at dksJ22_init_0 5 rfl rfl)
theorem dJ22_init_2_0 : decode cJ22_init_2 0 = .ok (.aload_n 0, 1) := by decide +kernel
theorem dJ22_init_2_1 : decode cJ22_init_2 1 = .ok (.invokespecial 1, 3) := by decide +kernel
theorem dJ22_init_2_4 : decode cJ22_init_2 4 = .ok (.return_, 1) := by decide +kernel
def dkwJ23_init_1 : List UInt8 := [167, 0, 16, 42, 27, 184, 0, 26, 181, 0, 15, 42, 4, 181, 0, 22, 177]
abbrev dktJ23_init_1 : List UInt8 := dkwJ23_init_1 ++ []
def dkwJ23_init_0 : List UInt8 := [42, 183, 0, 3, 178, 0, 18, 153, 0, 18, 42, 27, 188, 8, 181, 0, 15, 42, 3, 181, 0, 22]
abbrev dktJ23_init_0 : List UInt8 := dkwJ23_init_0 ++ dktJ23_init_1
theorem dksJ23_init_0 : cJ23_init.data.toList.drop 0 = dktJ23_init_0 := by decide +kernel
theorem dksJ23_init_1 : cJ23_init.data.toList.drop 22 = dktJ23_init_1 := dk_seg dksJ23_init_0 22 rfl rfl
theorem dJ23_init_0 : decode cJ23_init 0 = .ok (.aload_n 0, 1) := dk_42 (dk_at dksJ23_init_0 0 rfl rfl)
theorem dJ23_init_1 : decode cJ23_init 1 = .ok (.invokespecial 3, 3) := dk_183 0 3 (dk_at dksJ23_init_0 1 rfl rfl)
theorem dJ23_init_4 : decode cJ23_init 4 = .ok (.getstatic 18, 3) := dk_178 0 18 (dk_at dksJ23_init_0 4 rfl rfl)
theorem dJ23_init_7 : decode cJ23_init 7 = .ok (.ifCond .eq 18, 3) := dk_153 0 18 (dk_at dksJ23_init_0 7 rfl rfl)
theorem dJ23_init_10 : decode cJ23_init 10 = .ok (.aload_n 0, 1) := dk_42 (dk_at dksJ23_init_0 10 rfl rfl)
theorem dJ23_init_11 : decode cJ23_init 11 = .ok (.iload_n 1, 1) := dk_27 (dk_at dksJ23_init_0 11 rfl rfl)
theorem dJ23_init_12 : decode cJ23_init 12 = .ok (.newarray .byte, 2) := dk_188_8 (dk_at dksJ23_init_0 12 rfl rfl)
theorem dJ23_init_14 : decode cJ23_init 14 = .ok (.putfield 15, 3) := dk_181 0 15 (dk_at dksJ23_init_0 14 rfl rfl)
theorem dJ23_init_17 : decode cJ23_init 17 = .ok (.aload_n 0, 1) := dk_42 (dk_at dksJ23_init_0 17 rfl rfl)
theorem dJ23_init_18 : decode cJ23_init 18 = .ok (.iconst 0, 1) := dk_3 (dk_at dksJ23_init_0 18 rfl rfl)
theorem dJ23_init_19 : decode cJ23_init 19 = .ok (.putfield 22, 3) := dk_181 0 22 (dk_at dksJ23_init_0 19 rfl rfl)
theorem dJ23_init_22 : decode cJ23_init 22 = .ok (.goto 16, 3) := dk_167 0 16 (dk_at dksJ23_init_1 0 rfl rfl)
theorem dJ23_init_25 : decode cJ23_init 25 = .ok (.aload_n 0, 1) := dk_42 (dk_at dksJ23_init_1 3 rfl rfl)
theorem dJ23_init_26 : decode cJ23_init 26 = .ok (.iload_n 1, 1) := dk_27 (dk_at dksJ23_init_1 4 rfl rfl)
theorem dJ23_init_27 : decode cJ23_init 27 = .ok (.invokestatic 26, 3) := dk_184 0 26 (dk_at dksJ23_init_1 5 rfl rfl)
theorem dJ23_init_30 : decode cJ23_init 30 = .ok (.putfield 15, 3) := dk_181 0 15 (dk_at dksJ23_init_1 8 rfl rfl)
theorem dJ23_init_33 : decode cJ23_init 33 = .ok (.aload_n 0, 1) := dk_42 (dk_at dksJ23_init_1 11 rfl rfl)
theorem dJ23_init_34 : decode cJ23_init 34 = .ok (.iconst 1, 1) := dk_4 (dk_at dksJ23_init_1 12 rfl rfl)
theorem dJ23_init_35 : decode cJ23_init 35 = .ok (.putfield 22, 3) := dk_181 0 22 (dk_at dksJ23_init_1 13 rfl rfl)
theorem dJ23_init_38 : decode cJ23_init 38 = .ok (.return_, 1) := dk_177 (dk_at dksJ23_init_1 16 rfl rfl)
def dkwJ23_append_1 : List UInt8 := [42, 42, 180, 0, 79, 43, 182, 0, 208, 42, 89, 180, 0, 79, 28, 96, 181, 0, 79, 42, 176]
abbrev dktJ23_append_1 : List UInt8 := dkwJ23_append_1 ++ []
def dkwJ23_append_0 : List UInt8 := [43, 199, 0, 8, 42, 182, 0, 204, 176, 43, 182, 0, 32, 61, 42, 42, 180, 0, 79, 28, 96, 182, 0, 100]
abbrev dktJ23_append_0 : List UInt8 := dkwJ23_append_0 ++ dktJ23_append_1
theorem dksJ23_append_0 : cJ23_append.data.toList.drop 0 = dktJ23_append_0 := by decide +kernel
theorem dksJ23_append_1 : cJ23_append.data.toList.drop 24 = dktJ23_append_1 := dk_seg dksJ23_append_0 24 rfl rfl
theorem dJ23_append_0 : decode cJ23_append 0 = .ok (.aload_n 1, 1) := dk_43 (dk_at dksJ23_append_0 0 rfl rfl)
theorem dJ23_append_1 : decode cJ23_append 1 = .ok (.ifnonnull 8, 3) := dk_199 0 8 (dk_at dksJ23_append_0 1 rfl rfl)
theorem dJ23_append_4 : decode cJ23_append 4 = .ok (.aload_n 0, 1) := dk_42 (dk_at dksJ23_append_0 4 rfl rfl)
theorem dJ23_append_5 : decode cJ23_append 5 = .ok (.invokevirtual 204, 3) := dk_182 0 204 (dk_at dksJ23_append_0 5 rfl rfl)
theorem dJ23_append_8 : decode cJ23_append 8 = .ok (.areturn, 1) := dk_176 (dk_at dksJ23_append_0 8 rfl rfl)
theorem dJ23_append_9 : decode cJ23_append 9 = .ok (.aload_n 1, 1) := dk_43 (dk_at dksJ23_append_0 9 rfl rfl)
theorem dJ23_append_10 : decode cJ23_append 10 = .ok (.invokevirtual 32, 3) := dk_182 0 32 (dk_at dksJ23_append_0 10 rfl rfl)
theorem dJ23_append_13 : decode cJ23_append 13 = .ok (.istore_n 2, 1) := dk_61 (dk_at dksJ23_append_0 13 rfl rfl)
theorem dJ23_append_14 : decode cJ23_append 14 = .ok (.aload_n 0, 1) := dk_42 (dk_at dksJ23_append_0 14 rfl rfl)
theorem dJ23_append_15 : decode cJ23_append 15 = .ok (.aload_n 0, 1) := dk_42 (dk_at dksJ23_append_0 15 rfl rfl)
theorem dJ23_append_16 : decode cJ23_append 16 = .ok (.getfield 79, 3) := dk_180 0 79 (dk_at dksJ23_append_0 16 rfl rfl)
theorem dJ23_append_19 : decode cJ23_append 19 = .ok (.iload_n 2, 1) := dk_28 (dk_at dksJ23_append_0 19 rfl rfl)
theorem dJ23_append_20 : decode cJ23_append 20 = .ok (.iadd, 1) := dk_96 (dk_at dksJ23_append_0 20 rfl rfl)
theorem dJ23_append_21 : decode cJ23_append 21 = .ok (.invokevirtual 100, 3) := dk_182 0 100 (dk_at dksJ23_append_0 21 rfl rfl)
theorem dJ23_append_24 : decode cJ23_append 24 = .ok (.aload_n 0, 1) := dk_42 (dk_at dksJ23_append_1 0 rfl rfl)
theorem dJ23_append_25 : decode cJ23_append 25 = .ok (.aload_n 0, 1) := dk_42 (dk_at dksJ23_append_1 1 rfl rfl)
theorem dJ23_append_26 : decode cJ23_append 26 = .ok (.getfield 79, 3) := dk_180 0 79 (dk_at dksJ23_append_1 2 rfl rfl)
theorem dJ23_append_29 : decode cJ23_append 29 = .ok (.aload_n 1, 1) := dk_43 (dk_at dksJ23_append_1 5 rfl rfl)
theorem dJ23_append_30 : decode cJ23_append 30 = .ok (.invokevirtual 208, 3) := dk_182 0 208 (dk_at dksJ23_append_1 6 rfl rfl)
theorem dJ23_append_33 : decode cJ23_append 33 = .ok (.aload_n 0, 1) := dk_42 (dk_at dksJ23_append_1 9 rfl rfl)
theorem dJ23_append_34 : decode cJ23_append 34 = .ok (.dup, 1) := dk_89 (dk_at dksJ23_append_1 10 rfl rfl)
theorem dJ23_append_35 : decode cJ23_append 35 = .ok (.getfield 79, 3) := dk_180 0 79 (dk_at dksJ23_append_1 11 rfl rfl)
theorem dJ23_append_38 : decode cJ23_append 38 = .ok (.iload_n 2, 1) := dk_28 (dk_at dksJ23_append_1 14 rfl rfl)
theorem dJ23_append_39 : decode cJ23_append 39 = .ok (.iadd, 1) := dk_96 (dk_at dksJ23_append_1 15 rfl rfl)
theorem dJ23_append_40 : decode cJ23_append 40 = .ok (.putfield 79, 3) := dk_181 0 79 (dk_at dksJ23_append_1 16 rfl rfl)
theorem dJ23_append_43 : decode cJ23_append 43 = .ok (.aload_n 0, 1) := dk_42 (dk_at dksJ23_append_1 19 rfl rfl)
theorem dJ23_append_44 : decode cJ23_append 44 = .ok (.areturn, 1) := dk_176 (dk_at dksJ23_append_1 20 rfl rfl)
def dkwJ23_appendNull_3 : List UInt8 := [184, 0, 226, 60, 42, 27, 181, 0, 79, 42, 176]
abbrev dktJ23_appendNull_3 : List UInt8 := dkwJ23_appendNull_3 ++ []
def dkwJ23_appendNull_2 : List UInt8 := [16, 108, 84, 44, 27, 132, 1, 1, 16, 108, 84, 167, 0, 17, 44, 27, 16, 110, 16, 117, 16, 108, 16, 108]
abbrev dktJ23_appendNull_2 : List UInt8 := dkwJ23_appendNull_2 ++ dktJ23_appendNull_3
def dkwJ23_appendNull_1 : List UInt8 := [153, 0, 38, 44, 27, 132, 1, 1, 16, 110, 84, 44, 27, 132, 1, 1, 16, 117, 84, 44, 27, 132, 1, 1]
abbrev dktJ23_appendNull_1 : List UInt8 := dkwJ23_appendNull_1 ++ dktJ23_appendNull_2
def dkwJ23_appendNull_0 : List UInt8 := [42, 42, 180, 0, 79, 7, 96, 182, 0, 100, 42, 180, 0, 79, 60, 42, 180, 0, 15, 77, 42, 182, 0, 83]
abbrev dktJ23_appendNull_0 : List UInt8 := dkwJ23_appendNull_0 ++ dktJ23_appendNull_1
theorem dksJ23_appendNull_0 : cJ23_appendNull.data.toList.drop 0 = dktJ23_appendNull_0 := by decide +kernel
theorem dksJ23_appendNull_1 : cJ23_appendNull.data.toList.drop 24 = dktJ23_appendNull_1 := dk_seg dksJ23_appendNull_0 24 rfl rfl
theorem dksJ23_appendNull_2 : cJ23_appendNull.data.toList.drop 48 = dktJ23_appendNull_2 := dk_seg dksJ23_appendNull_1 24 rfl rfl
theorem dksJ23_appendNull_3 : cJ23_appendNull.data.toList.drop 72 = dktJ23_appendNull_3 := dk_seg dksJ23_appendNull_2 24 rfl rfl
theorem dJ23_appendNull_0 : decode cJ23_appendNull 0 = .ok (.aload_n 0, 1) := dk_42 (dk_at dksJ23_appendNull_0 0 rfl rfl)
theorem dJ23_appendNull_1 : decode cJ23_appendNull 1 = .ok (.aload_n 0, 1) := dk_42 (dk_at dksJ23_appendNull_0 1 rfl rfl)
theorem dJ23_appendNull_2 : decode cJ23_appendNull 2 = .ok (.getfield 79, 3) := dk_180 0 79 (dk_at dksJ23_appendNull_0 2 rfl rfl)
theorem dJ23_appendNull_5 : decode cJ23_appendNull 5 = .ok (.iconst 4, 1) := dk_7 (dk_at dksJ23_appendNull_0 5 rfl rfl)
theorem dJ23_appendNull_6 : decode cJ23_appendNull 6 = .ok (.iadd, 1) := dk_96 (dk_at dksJ23_appendNull_0 6 rfl rfl)
theorem dJ23_appendNull_7 : decode cJ23_appendNull 7 = .ok (.invokevirtual 100, 3) := dk_182 0 100 (dk_at dksJ23_appendNull_0 7 rfl rfl)
theorem dJ23_appendNull_10 : decode cJ23_appendNull 10 = .ok (.aload_n 0, 1) := dk_42 (dk_at dksJ23_appendNull_0 10 rfl rfl)
theorem dJ23_appendNull_11 : decode cJ23_appendNull 11 = .ok (.getfield 79, 3) := dk_180 0 79 (dk_at dksJ23_appendNull_0 11 rfl rfl)
theorem dJ23_appendNull_14 : decode cJ23_appendNull 14 = .ok (.istore_n 1, 1) := dk_60 (dk_at dksJ23_appendNull_0 14 rfl rfl)
theorem dJ23_appendNull_15 : decode cJ23_appendNull 15 = .ok (.aload_n 0, 1) := dk_42 (dk_at dksJ23_appendNull_0 15 rfl rfl)
theorem dJ23_appendNull_16 : decode cJ23_appendNull 16 = .ok (.getfield 15, 3) := dk_180 0 15 (dk_at dksJ23_appendNull_0 16 rfl rfl)
theorem dJ23_appendNull_19 : decode cJ23_appendNull 19 = .ok (.astore_n 2, 1) := dk_77 (dk_at dksJ23_appendNull_0 19 rfl rfl)
theorem dJ23_appendNull_20 : decode cJ23_appendNull 20 = .ok (.aload_n 0, 1) := dk_42 (dk_at dksJ23_appendNull_0 20 rfl rfl)
theorem dJ23_appendNull_21 : decode cJ23_appendNull 21 = .ok (.invokevirtual 83, 3) := dk_182 0 83 (dk_at dksJ23_appendNull_0 21 rfl rfl)
theorem dJ23_appendNull_24 : decode cJ23_appendNull 24 = .ok (.ifCond .eq 38, 3) := dk_153 0 38 (dk_at dksJ23_appendNull_1 0 rfl rfl)
theorem dJ23_appendNull_27 : decode cJ23_appendNull 27 = .ok (.aload_n 2, 1) := dk_44 (dk_at dksJ23_appendNull_1 3 rfl rfl)
theorem dJ23_appendNull_28 : decode cJ23_appendNull 28 = .ok (.iload_n 1, 1) := dk_27 (dk_at dksJ23_appendNull_1 4 rfl rfl)
theorem dJ23_appendNull_29 : decode cJ23_appendNull 29 = .ok (.iinc 1 1, 3) := dk_132 1 1 (dk_at dksJ23_appendNull_1 5 rfl rfl)
theorem dJ23_appendNull_32 : decode cJ23_appendNull 32 = .ok (.bipush 110, 2) := dk_16 110 (dk_at dksJ23_appendNull_1 8 rfl rfl)
theorem dJ23_appendNull_34 : decode cJ23_appendNull 34 = .ok (.bastore, 1) := dk_84 (dk_at dksJ23_appendNull_1 10 rfl rfl)
theorem dJ23_appendNull_35 : decode cJ23_appendNull 35 = .ok (.aload_n 2, 1) := dk_44 (dk_at dksJ23_appendNull_1 11 rfl rfl)
theorem dJ23_appendNull_36 : decode cJ23_appendNull 36 = .ok (.iload_n 1, 1) := dk_27 (dk_at dksJ23_appendNull_1 12 rfl rfl)
theorem dJ23_appendNull_37 : decode cJ23_appendNull 37 = .ok (.iinc 1 1, 3) := dk_132 1 1 (dk_at dksJ23_appendNull_1 13 rfl rfl)
theorem dJ23_appendNull_40 : decode cJ23_appendNull 40 = .ok (.bipush 117, 2) := dk_16 117 (dk_at dksJ23_appendNull_1 16 rfl rfl)
theorem dJ23_appendNull_42 : decode cJ23_appendNull 42 = .ok (.bastore, 1) := dk_84 (dk_at dksJ23_appendNull_1 18 rfl rfl)
theorem dJ23_appendNull_43 : decode cJ23_appendNull 43 = .ok (.aload_n 2, 1) := dk_44 (dk_at dksJ23_appendNull_1 19 rfl rfl)
theorem dJ23_appendNull_44 : decode cJ23_appendNull 44 = .ok (.iload_n 1, 1) := dk_27 (dk_at dksJ23_appendNull_1 20 rfl rfl)
theorem dJ23_appendNull_45 : decode cJ23_appendNull 45 = .ok (.iinc 1 1, 3) := dk_132 1 1 (dk_at dksJ23_appendNull_1 21 rfl rfl)
theorem dJ23_appendNull_48 : decode cJ23_appendNull 48 = .ok (.bipush 108, 2) := dk_16 108 (dk_at dksJ23_appendNull_2 0 rfl rfl)
theorem dJ23_appendNull_50 : decode cJ23_appendNull 50 = .ok (.bastore, 1) := dk_84 (dk_at dksJ23_appendNull_2 2 rfl rfl)
theorem dJ23_appendNull_51 : decode cJ23_appendNull 51 = .ok (.aload_n 2, 1) := dk_44 (dk_at dksJ23_appendNull_2 3 rfl rfl)
theorem dJ23_appendNull_52 : decode cJ23_appendNull 52 = .ok (.iload_n 1, 1) := dk_27 (dk_at dksJ23_appendNull_2 4 rfl rfl)
theorem dJ23_appendNull_53 : decode cJ23_appendNull 53 = .ok (.iinc 1 1, 3) := dk_132 1 1 (dk_at dksJ23_appendNull_2 5 rfl rfl)
theorem dJ23_appendNull_56 : decode cJ23_appendNull 56 = .ok (.bipush 108, 2) := dk_16 108 (dk_at dksJ23_appendNull_2 8 rfl rfl)
theorem dJ23_appendNull_58 : decode cJ23_appendNull 58 = .ok (.bastore, 1) := dk_84 (dk_at dksJ23_appendNull_2 10 rfl rfl)
theorem dJ23_appendNull_59 : decode cJ23_appendNull 59 = .ok (.goto 17, 3) := dk_167 0 17 (dk_at dksJ23_appendNull_2 11 rfl rfl)
theorem dJ23_appendNull_62 : decode cJ23_appendNull 62 = .ok (.aload_n 2, 1) := dk_44 (dk_at dksJ23_appendNull_2 14 rfl rfl)
theorem dJ23_appendNull_63 : decode cJ23_appendNull 63 = .ok (.iload_n 1, 1) := dk_27 (dk_at dksJ23_appendNull_2 15 rfl rfl)
theorem dJ23_appendNull_64 : decode cJ23_appendNull 64 = .ok (.bipush 110, 2) := dk_16 110 (dk_at dksJ23_appendNull_2 16 rfl rfl)
theorem dJ23_appendNull_66 : decode cJ23_appendNull 66 = .ok (.bipush 117, 2) := dk_16 117 (dk_at dksJ23_appendNull_2 18 rfl rfl)
theorem dJ23_appendNull_68 : decode cJ23_appendNull 68 = .ok (.bipush 108, 2) := dk_16 108 (dk_at dksJ23_appendNull_2 20 rfl rfl)
theorem dJ23_appendNull_70 : decode cJ23_appendNull 70 = .ok (.bipush 108, 2) := dk_16 108 (dk_at dksJ23_appendNull_2 22 rfl rfl)
theorem dJ23_appendNull_72 : decode cJ23_appendNull 72 = .ok (.invokestatic 226, 3) := dk_184 0 226 (dk_at dksJ23_appendNull_3 0 rfl rfl)
theorem dJ23_appendNull_75 : decode cJ23_appendNull 75 = .ok (.istore_n 1, 1) := dk_60 (dk_at dksJ23_appendNull_3 3 rfl rfl)
theorem dJ23_appendNull_76 : decode cJ23_appendNull 76 = .ok (.aload_n 0, 1) := dk_42 (dk_at dksJ23_appendNull_3 4 rfl rfl)
theorem dJ23_appendNull_77 : decode cJ23_appendNull 77 = .ok (.iload_n 1, 1) := dk_27 (dk_at dksJ23_appendNull_3 5 rfl rfl)
theorem dJ23_appendNull_78 : decode cJ23_appendNull 78 = .ok (.putfield 79, 3) := dk_181 0 79 (dk_at dksJ23_appendNull_3 6 rfl rfl)
theorem dJ23_appendNull_81 : decode cJ23_appendNull 81 = .ok (.aload_n 0, 1) := dk_42 (dk_at dksJ23_appendNull_3 9 rfl rfl)
theorem dJ23_appendNull_82 : decode cJ23_appendNull 82 = .ok (.areturn, 1) := dk_176 (dk_at dksJ23_appendNull_3 10 rfl rfl)
def dkwJ23_ensureCapacityInternal_1 : List UInt8 := [182, 0, 104, 42, 180, 0, 22, 120, 184, 0, 108, 181, 0, 15, 177]
abbrev dktJ23_ensureCapacityInternal_1 : List UInt8 := dkwJ23_ensureCapacityInternal_1 ++ []
def dkwJ23_ensureCapacityInternal_0 : List UInt8 := [42, 180, 0, 15, 190, 42, 180, 0, 22, 122, 61, 27, 28, 100, 158, 0, 24, 42, 42, 180, 0, 15, 42, 27]
abbrev dktJ23_ensureCapacityInternal_0 : List UInt8 := dkwJ23_ensureCapacityInternal_0 ++ dktJ23_ensureCapacityInternal_1
theorem dksJ23_ensureCapacityInternal_0 : cJ23_ensureCapacityInternal.data.toList.drop 0 = dktJ23_ensureCapacityInternal_0 := by decide +kernel
theorem dksJ23_ensureCapacityInternal_1 : cJ23_ensureCapacityInternal.data.toList.drop 24 = dktJ23_ensureCapacityInternal_1 := dk_seg dksJ23_ensureCapacityInternal_0 24 rfl rfl
theorem dJ23_ensureCapacityInternal_0 : decode cJ23_ensureCapacityInternal 0 = .ok (.aload_n 0, 1) := dk_42 (dk_at dksJ23_ensureCapacityInternal_0 0 rfl rfl)
theorem dJ23_ensureCapacityInternal_1 : decode cJ23_ensureCapacityInternal 1 = .ok (.getfield 15, 3) := dk_180 0 15 (dk_at dksJ23_ensureCapacityInternal_0 1 rfl rfl)
theorem dJ23_ensureCapacityInternal_4 : decode cJ23_ensureCapacityInternal 4 = .ok (.arraylength, 1) := dk_190 (dk_at dksJ23_ensureCapacityInternal_0 4 rfl rfl)
theorem dJ23_ensureCapacityInternal_5 : decode cJ23_ensureCapacityInternal 5 = .ok (.aload_n 0, 1) := dk_42 (dk_at dksJ23_ensureCapacityInternal_0 5 rfl rfl)
theorem dJ23_ensureCapacityInternal_6 : decode cJ23_ensureCapacityInternal 6 = .ok (.getfield 22, 3) := dk_180 0 22 (dk_at dksJ23_ensureCapacityInternal_0 6 rfl rfl)
theorem dJ23_ensureCapacityInternal_9 : decode cJ23_ensureCapacityInternal 9 = .ok (.ishr, 1) := dk_122 (dk_at dksJ23_ensureCapacityInternal_0 9 rfl rfl)
theorem dJ23_ensureCapacityInternal_10 : decode cJ23_ensureCapacityInternal 10 = .ok (.istore_n 2, 1) := dk_61 (dk_at dksJ23_ensureCapacityInternal_0 10 rfl rfl)
theorem dJ23_ensureCapacityInternal_11 : decode cJ23_ensureCapacityInternal 11 = .ok (.iload_n 1, 1) := dk_27 (dk_at dksJ23_ensureCapacityInternal_0 11 rfl rfl)
theorem dJ23_ensureCapacityInternal_12 : decode cJ23_ensureCapacityInternal 12 = .ok (.iload_n 2, 1) := dk_28 (dk_at dksJ23_ensureCapacityInternal_0 12 rfl rfl)
theorem dJ23_ensureCapacityInternal_13 : decode cJ23_ensureCapacityInternal 13 = .ok (.isub, 1) := dk_100 (dk_at dksJ23_ensureCapacityInternal_0 13 rfl rfl)
theorem dJ23_ensureCapacityInternal_14 : decode cJ23_ensureCapacityInternal 14 = .ok (.ifCond .le 24, 3) := dk_158 0 24 (dk_at dksJ23_ensureCapacityInternal_0 14 rfl rfl)
theorem dJ23_ensureCapacityInternal_17 : decode cJ23_ensureCapacityInternal 17 = .ok (.aload_n 0, 1) := dk_42 (dk_at dksJ23_ensureCapacityInternal_0 17 rfl rfl)
theorem dJ23_ensureCapacityInternal_18 : decode cJ23_ensureCapacityInternal 18 = .ok (.aload_n 0, 1) := dk_42 (dk_at dksJ23_ensureCapacityInternal_0 18 rfl rfl)
theorem dJ23_ensureCapacityInternal_19 : decode cJ23_ensureCapacityInternal 19 = .ok (.getfield 15, 3) := dk_180 0 15 (dk_at dksJ23_ensureCapacityInternal_0 19 rfl rfl)
theorem dJ23_ensureCapacityInternal_22 : decode cJ23_ensureCapacityInternal 22 = .ok (.aload_n 0, 1) := dk_42 (dk_at dksJ23_ensureCapacityInternal_0 22 rfl rfl)
theorem dJ23_ensureCapacityInternal_23 : decode cJ23_ensureCapacityInternal 23 = .ok (.iload_n 1, 1) := dk_27 (dk_at dksJ23_ensureCapacityInternal_0 23 rfl rfl)
theorem dJ23_ensureCapacityInternal_24 : decode cJ23_ensureCapacityInternal 24 = .ok (.invokevirtual 104, 3) := dk_182 0 104 (dk_at dksJ23_ensureCapacityInternal_1 0 rfl rfl)
theorem dJ23_ensureCapacityInternal_27 : decode cJ23_ensureCapacityInternal 27 = .ok (.aload_n 0, 1) := dk_42 (dk_at dksJ23_ensureCapacityInternal_1 3 rfl rfl)
theorem dJ23_ensureCapacityInternal_28 : decode cJ23_ensureCapacityInternal 28 = .ok (.getfield 22, 3) := dk_180 0 22 (dk_at dksJ23_ensureCapacityInternal_1 4 rfl rfl)
theorem dJ23_ensureCapacityInternal_31 : decode cJ23_ensureCapacityInternal 31 = .ok (.ishl, 1) := dk_120 (dk_at dksJ23_ensureCapacityInternal_1 7 rfl rfl)
theorem dJ23_ensureCapacityInternal_32 : decode cJ23_ensureCapacityInternal 32 = .ok (.invokestatic 108, 3) := dk_184 0 108 (dk_at dksJ23_ensureCapacityInternal_1 8 rfl rfl)
theorem dJ23_ensureCapacityInternal_35 : decode cJ23_ensureCapacityInternal 35 = .ok (.putfield 15, 3) := dk_181 0 15 (dk_at dksJ23_ensureCapacityInternal_1 11 rfl rfl)
theorem dJ23_ensureCapacityInternal_38 : decode cJ23_ensureCapacityInternal 38 = .ok (.return_, 1) := dk_177 (dk_at dksJ23_ensureCapacityInternal_1 14 rfl rfl)
def dkwJ23_newCapacity_2 : List UInt8 := [183, 0, 124, 191, 21, 5, 42, 180, 0, 22, 122, 172]
abbrev dktJ23_newCapacity_2 : List UInt8 := dkwJ23_newCapacity_2 ++ []
def dkwJ23_newCapacity_1 : List UInt8 := [180, 0, 22, 120, 96, 184, 0, 114, 54, 5, 21, 5, 18, 39, 160, 0, 13, 187, 0, 120, 89, 18, 122]
abbrev dktJ23_newCapacity_1 : List UInt8 := dkwJ23_newCapacity_1 ++ dktJ23_newCapacity_2
def dkwJ23_newCapacity_0 : List UInt8 := [42, 180, 0, 15, 190, 61, 27, 42, 180, 0, 22, 120, 62, 29, 28, 100, 54, 4, 28, 21, 4, 28, 5, 42]
abbrev dktJ23_newCapacity_0 : List UInt8 := dkwJ23_newCapacity_0 ++ dktJ23_newCapacity_1
theorem dksJ23_newCapacity_0 : cJ23_newCapacity.data.toList.drop 0 = dktJ23_newCapacity_0 := by decide +kernel
theorem dksJ23_newCapacity_1 : cJ23_newCapacity.data.toList.drop 24 = dktJ23_newCapacity_1 := dk_seg dksJ23_newCapacity_0 24 rfl rfl
theorem dksJ23_newCapacity_2 : cJ23_newCapacity.data.toList.drop 47 = dktJ23_newCapacity_2 := dk_seg dksJ23_newCapacity_1 23 rfl rfl
theorem dJ23_newCapacity_0 : decode cJ23_newCapacity 0 = .ok (.aload_n 0, 1) := dk_42 (dk_at dksJ23_newCapacity_0 0 rfl rfl)
theorem dJ23_newCapacity_1 : decode cJ23_newCapacity 1 = .ok (.getfield 15, 3) := dk_180 0 15 (dk_at dksJ23_newCapacity_0 1 rfl rfl)
theorem dJ23_newCapacity_4 : decode cJ23_newCapacity 4 = .ok (.arraylength, 1) := dk_190 (dk_at dksJ23_newCapacity_0 4 rfl rfl)
theorem dJ23_newCapacity_5 : decode cJ23_newCapacity 5 = .ok (.istore_n 2, 1) := dk_61 (dk_at dksJ23_newCapacity_0 5 rfl rfl)
theorem dJ23_newCapacity_6 : decode cJ23_newCapacity 6 = .ok (.iload_n 1, 1) := dk_27 (dk_at dksJ23_newCapacity_0 6 rfl rfl)
theorem dJ23_newCapacity_7 : decode cJ23_newCapacity 7 = .ok (.aload_n 0, 1) := dk_42 (dk_at dksJ23_newCapacity_0 7 rfl rfl)
theorem dJ23_newCapacity_8 : decode cJ23_newCapacity 8 = .ok (.getfield 22, 3) := dk_180 0 22 (dk_at dksJ23_newCapacity_0 8 rfl rfl)
theorem dJ23_newCapacity_11 : decode cJ23_newCapacity 11 = .ok (.ishl, 1) := dk_120 (dk_at dksJ23_newCapacity_0 11 rfl rfl)
theorem dJ23_newCapacity_12 : decode cJ23_newCapacity 12 = .ok (.istore_n 3, 1) := dk_62 (dk_at dksJ23_newCapacity_0 12 rfl rfl)
theorem dJ23_newCapacity_13 : decode cJ23_newCapacity 13 = .ok (.iload_n 3, 1) := dk_29 (dk_at dksJ23_newCapacity_0 13 rfl rfl)
theorem dJ23_newCapacity_14 : decode cJ23_newCapacity 14 = .ok (.iload_n 2, 1) := dk_28 (dk_at dksJ23_newCapacity_0 14 rfl rfl)
theorem dJ23_newCapacity_15 : decode cJ23_newCapacity 15 = .ok (.isub, 1) := dk_100 (dk_at dksJ23_newCapacity_0 15 rfl rfl)
theorem dJ23_newCapacity_16 : decode cJ23_newCapacity 16 = .ok (.istore 4, 2) := dk_54 4 (dk_at dksJ23_newCapacity_0 16 rfl rfl)
theorem dJ23_newCapacity_18 : decode cJ23_newCapacity 18 = .ok (.iload_n 2, 1) := dk_28 (dk_at dksJ23_newCapacity_0 18 rfl rfl)
theorem dJ23_newCapacity_19 : decode cJ23_newCapacity 19 = .ok (.iload 4, 2) := dk_21 4 (dk_at dksJ23_newCapacity_0 19 rfl rfl)
theorem dJ23_newCapacity_21 : decode cJ23_newCapacity 21 = .ok (.iload_n 2, 1) := dk_28 (dk_at dksJ23_newCapacity_0 21 rfl rfl)
theorem dJ23_newCapacity_22 : decode cJ23_newCapacity 22 = .ok (.iconst 2, 1) := dk_5 (dk_at dksJ23_newCapacity_0 22 rfl rfl)
theorem dJ23_newCapacity_23 : decode cJ23_newCapacity 23 = .ok (.aload_n 0, 1) := dk_42 (dk_at dksJ23_newCapacity_0 23 rfl rfl)
theorem dJ23_newCapacity_24 : decode cJ23_newCapacity 24 = .ok (.getfield 22, 3) := dk_180 0 22 (dk_at dksJ23_newCapacity_1 0 rfl rfl)
theorem dJ23_newCapacity_27 : decode cJ23_newCapacity 27 = .ok (.ishl, 1) := dk_120 (dk_at dksJ23_newCapacity_1 3 rfl rfl)
theorem dJ23_newCapacity_28 : decode cJ23_newCapacity 28 = .ok (.iadd, 1) := dk_96 (dk_at dksJ23_newCapacity_1 4 rfl rfl)
theorem dJ23_newCapacity_29 : decode cJ23_newCapacity 29 = .ok (.invokestatic 114, 3) := dk_184 0 114 (dk_at dksJ23_newCapacity_1 5 rfl rfl)
theorem dJ23_newCapacity_32 : decode cJ23_newCapacity 32 = .ok (.istore 5, 2) := dk_54 5 (dk_at dksJ23_newCapacity_1 8 rfl rfl)
theorem dJ23_newCapacity_34 : decode cJ23_newCapacity 34 = .ok (.iload 5, 2) := dk_21 5 (dk_at dksJ23_newCapacity_1 10 rfl rfl)
theorem dJ23_newCapacity_36 : decode cJ23_newCapacity 36 = .ok (.ldc 39, 2) := dk_18 39 (dk_at dksJ23_newCapacity_1 12 rfl rfl)
theorem dJ23_newCapacity_38 : decode cJ23_newCapacity 38 = .ok (.if_icmp .ne 13, 3) := dk_160 0 13 (dk_at dksJ23_newCapacity_1 14 rfl rfl)
theorem dJ23_newCapacity_41 : decode cJ23_newCapacity 41 = .ok (.new 120, 3) := dk_187 0 120 (dk_at dksJ23_newCapacity_1 17 rfl rfl)
theorem dJ23_newCapacity_44 : decode cJ23_newCapacity 44 = .ok (.dup, 1) := dk_89 (dk_at dksJ23_newCapacity_1 20 rfl rfl)
theorem dJ23_newCapacity_45 : decode cJ23_newCapacity 45 = .ok (.ldc 122, 2) := dk_18 122 (dk_at dksJ23_newCapacity_1 21 rfl rfl)
theorem dJ23_newCapacity_47 : decode cJ23_newCapacity 47 = .ok (.invokespecial 124, 3) := dk_183 0 124 (dk_at dksJ23_newCapacity_2 0 rfl rfl)
theorem dJ23_newCapacity_50 : decode cJ23_newCapacity 50 = .ok (.athrow, 1) := dk_191 (dk_at dksJ23_newCapacity_2 3 rfl rfl)
theorem dJ23_newCapacity_51 : decode cJ23_newCapacity 51 = .ok (.iload 5, 2) := dk_21 5 (dk_at dksJ23_newCapacity_2 4 rfl rfl)
theorem dJ23_newCapacity_53 : decode cJ23_newCapacity 53 = .ok (.aload_n 0, 1) := dk_42 (dk_at dksJ23_newCapacity_2 6 rfl rfl)
theorem dJ23_newCapacity_54 : decode cJ23_newCapacity 54 = .ok (.getfield 22, 3) := dk_180 0 22 (dk_at dksJ23_newCapacity_2 7 rfl rfl)
theorem dJ23_newCapacity_57 : decode cJ23_newCapacity 57 = .ok (.ishr, 1) := dk_122 (dk_at dksJ23_newCapacity_2 10 rfl rfl)
theorem dJ23_newCapacity_58 : decode cJ23_newCapacity 58 = .ok (.ireturn, 1) := dk_172 (dk_at dksJ23_newCapacity_2 11 rfl rfl)
def dkwJ23_isLatin1_0 : List UInt8 := [178, 0, 18, 153, 0, 14, 42, 180, 0, 22, 154, 0, 7, 4, 167, 0, 4, 3, 172]
abbrev dktJ23_isLatin1_0 : List UInt8 := dkwJ23_isLatin1_0 ++ []
theorem dksJ23_isLatin1_0 : cJ23_isLatin1.data.toList.drop 0 = dktJ23_isLatin1_0 := by decide +kernel
theorem dJ23_isLatin1_0 : decode cJ23_isLatin1 0 = .ok (.getstatic 18, 3) := dk_178 0 18 (dk_at dksJ23_isLatin1_0 0 rfl rfl)
theorem dJ23_isLatin1_3 : decode cJ23_isLatin1 3 = .ok (.ifCond .eq 14, 3) := dk_153 0 14 (dk_at dksJ23_isLatin1_0 3 rfl rfl)
theorem dJ23_isLatin1_6 : decode cJ23_isLatin1 6 = .ok (.aload_n 0, 1) := dk_42 (dk_at dksJ23_isLatin1_0 6 rfl rfl)
theorem dJ23_isLatin1_7 : decode cJ23_isLatin1 7 = .ok (.getfield 22, 3) := dk_180 0 22 (dk_at dksJ23_isLatin1_0 7 rfl rfl)
theorem dJ23_isLatin1_10 : decode cJ23_isLatin1 10 = .ok (.ifCond .ne 7, 3) := dk_154 0 7 (dk_at dksJ23_isLatin1_0 10 rfl rfl)
theorem dJ23_isLatin1_13 : decode cJ23_isLatin1 13 = .ok (.iconst 1, 1) := dk_4 (dk_at dksJ23_isLatin1_0 13 rfl rfl)
theorem dJ23_isLatin1_14 : decode cJ23_isLatin1 14 = .ok (.goto 4, 3) := dk_167 0 4 (dk_at dksJ23_isLatin1_0 14 rfl rfl)
theorem dJ23_isLatin1_17 : decode cJ23_isLatin1 17 = .ok (.iconst 0, 1) := dk_3 (dk_at dksJ23_isLatin1_0 17 rfl rfl)
theorem dJ23_isLatin1_18 : decode cJ23_isLatin1 18 = .ok (.ireturn, 1) := dk_172 (dk_at dksJ23_isLatin1_0 18 rfl rfl)
def dkwJ23_putStringAt_0 : List UInt8 := [42, 44, 182, 1, 141, 44, 42, 180, 0, 15, 27, 42, 180, 0, 22, 182, 1, 143, 177]
abbrev dktJ23_putStringAt_0 : List UInt8 := dkwJ23_putStringAt_0 ++ []
theorem dksJ23_putStringAt_0 : cJ23_putStringAt.data.toList.drop 0 = dktJ23_putStringAt_0 := by decide +kernel
theorem dJ23_putStringAt_0 : decode cJ23_putStringAt 0 = .ok (.aload_n 0, 1) := dk_42 (dk_at dksJ23_putStringAt_0 0 rfl rfl)
theorem dJ23_putStringAt_1 : decode cJ23_putStringAt 1 = .ok (.aload_n 2, 1) := dk_44 (dk_at dksJ23_putStringAt_0 1 rfl rfl)
theorem dJ23_putStringAt_2 : decode cJ23_putStringAt 2 = .ok (.invokevirtual 397, 3) := dk_182 1 141 (dk_at dksJ23_putStringAt_0 2 rfl rfl)
theorem dJ23_putStringAt_5 : decode cJ23_putStringAt 5 = .ok (.aload_n 2, 1) := dk_44 (dk_at dksJ23_putStringAt_0 5 rfl rfl)
theorem dJ23_putStringAt_6 : decode cJ23_putStringAt 6 = .ok (.aload_n 0, 1) := dk_42 (dk_at dksJ23_putStringAt_0 6 rfl rfl)
theorem dJ23_putStringAt_7 : decode cJ23_putStringAt 7 = .ok (.getfield 15, 3) := dk_180 0 15 (dk_at dksJ23_putStringAt_0 7 rfl rfl)
theorem dJ23_putStringAt_10 : decode cJ23_putStringAt 10 = .ok (.iload_n 1, 1) := dk_27 (dk_at dksJ23_putStringAt_0 10 rfl rfl)
theorem dJ23_putStringAt_11 : decode cJ23_putStringAt 11 = .ok (.aload_n 0, 1) := dk_42 (dk_at dksJ23_putStringAt_0 11 rfl rfl)
theorem dJ23_putStringAt_12 : decode cJ23_putStringAt 12 = .ok (.getfield 22, 3) := dk_180 0 22 (dk_at dksJ23_putStringAt_0 12 rfl rfl)
theorem dJ23_putStringAt_15 : decode cJ23_putStringAt 15 = .ok (.invokevirtual 399, 3) := dk_182 1 143 (dk_at dksJ23_putStringAt_0 15 rfl rfl)
theorem dJ23_putStringAt_18 : decode cJ23_putStringAt 18 = .ok (.return_, 1) := dk_177 (dk_at dksJ23_putStringAt_0 18 rfl rfl)
def dkwJ23_inflateIfNeededFor_0 : List UInt8 := [178, 0, 18, 153, 0, 18, 42, 180, 0, 22, 43, 182, 0, 40, 159, 0, 7, 42, 182, 0, 195, 177]
abbrev dktJ23_inflateIfNeededFor_0 : List UInt8 := dkwJ23_inflateIfNeededFor_0 ++ []
theorem dksJ23_inflateIfNeededFor_0 : cJ23_inflateIfNeededFor.data.toList.drop 0 = dktJ23_inflateIfNeededFor_0 := by decide +kernel
theorem dJ23_inflateIfNeededFor_0 : decode cJ23_inflateIfNeededFor 0 = .ok (.getstatic 18, 3) := dk_178 0 18 (dk_at dksJ23_inflateIfNeededFor_0 0 rfl rfl)
theorem dJ23_inflateIfNeededFor_3 : decode cJ23_inflateIfNeededFor 3 = .ok (.ifCond .eq 18, 3) := dk_153 0 18 (dk_at dksJ23_inflateIfNeededFor_0 3 rfl rfl)
theorem dJ23_inflateIfNeededFor_6 : decode cJ23_inflateIfNeededFor 6 = .ok (.aload_n 0, 1) := dk_42 (dk_at dksJ23_inflateIfNeededFor_0 6 rfl rfl)
theorem dJ23_inflateIfNeededFor_7 : decode cJ23_inflateIfNeededFor 7 = .ok (.getfield 22, 3) := dk_180 0 22 (dk_at dksJ23_inflateIfNeededFor_0 7 rfl rfl)
theorem dJ23_inflateIfNeededFor_10 : decode cJ23_inflateIfNeededFor 10 = .ok (.aload_n 1, 1) := dk_43 (dk_at dksJ23_inflateIfNeededFor_0 10 rfl rfl)
theorem dJ23_inflateIfNeededFor_11 : decode cJ23_inflateIfNeededFor 11 = .ok (.invokevirtual 40, 3) := dk_182 0 40 (dk_at dksJ23_inflateIfNeededFor_0 11 rfl rfl)
theorem dJ23_inflateIfNeededFor_14 : decode cJ23_inflateIfNeededFor 14 = .ok (.if_icmp .eq 7, 3) := dk_159 0 7 (dk_at dksJ23_inflateIfNeededFor_0 14 rfl rfl)
theorem dJ23_inflateIfNeededFor_17 : decode cJ23_inflateIfNeededFor 17 = .ok (.aload_n 0, 1) := dk_42 (dk_at dksJ23_inflateIfNeededFor_0 17 rfl rfl)
theorem dJ23_inflateIfNeededFor_18 : decode cJ23_inflateIfNeededFor 18 = .ok (.invokevirtual 195, 3) := dk_182 0 195 (dk_at dksJ23_inflateIfNeededFor_0 18 rfl rfl)
theorem dJ23_inflateIfNeededFor_21 : decode cJ23_inflateIfNeededFor 21 = .ok (.return_, 1) := dk_177 (dk_at dksJ23_inflateIfNeededFor_0 21 rfl rfl)
def dkwJ23_inflate_1 : List UInt8 := [42, 180, 0, 79, 184, 0, 125, 42, 43, 181, 0, 15, 42, 4, 181, 0, 22, 177]
abbrev dktJ23_inflate_1 : List UInt8 := dkwJ23_inflate_1 ++ []
def dkwJ23_inflate_0 : List UInt8 := [42, 182, 0, 83, 154, 0, 4, 177, 42, 180, 0, 15, 190, 184, 0, 26, 76, 42, 180, 0, 15, 3, 43, 3]
abbrev dktJ23_inflate_0 : List UInt8 := dkwJ23_inflate_0 ++ dktJ23_inflate_1
theorem dksJ23_inflate_0 : cJ23_inflate.data.toList.drop 0 = dktJ23_inflate_0 := by decide +kernel
theorem dksJ23_inflate_1 : cJ23_inflate.data.toList.drop 24 = dktJ23_inflate_1 := dk_seg dksJ23_inflate_0 24 rfl rfl
theorem dJ23_inflate_0 : decode cJ23_inflate 0 = .ok (.aload_n 0, 1) := dk_42 (dk_at dksJ23_inflate_0 0 rfl rfl)
theorem dJ23_inflate_1 : decode cJ23_inflate 1 = .ok (.invokevirtual 83, 3) := dk_182 0 83 (dk_at dksJ23_inflate_0 1 rfl rfl)
theorem dJ23_inflate_4 : decode cJ23_inflate 4 = .ok (.ifCond .ne 4, 3) := dk_154 0 4 (dk_at dksJ23_inflate_0 4 rfl rfl)
theorem dJ23_inflate_7 : decode cJ23_inflate 7 = .ok (.return_, 1) := dk_177 (dk_at dksJ23_inflate_0 7 rfl rfl)
theorem dJ23_inflate_8 : decode cJ23_inflate 8 = .ok (.aload_n 0, 1) := dk_42 (dk_at dksJ23_inflate_0 8 rfl rfl)
theorem dJ23_inflate_9 : decode cJ23_inflate 9 = .ok (.getfield 15, 3) := dk_180 0 15 (dk_at dksJ23_inflate_0 9 rfl rfl)
theorem dJ23_inflate_12 : decode cJ23_inflate 12 = .ok (.arraylength, 1) := dk_190 (dk_at dksJ23_inflate_0 12 rfl rfl)
theorem dJ23_inflate_13 : decode cJ23_inflate 13 = .ok (.invokestatic 26, 3) := dk_184 0 26 (dk_at dksJ23_inflate_0 13 rfl rfl)
theorem dJ23_inflate_16 : decode cJ23_inflate 16 = .ok (.astore_n 1, 1) := dk_76 (dk_at dksJ23_inflate_0 16 rfl rfl)
theorem dJ23_inflate_17 : decode cJ23_inflate 17 = .ok (.aload_n 0, 1) := dk_42 (dk_at dksJ23_inflate_0 17 rfl rfl)
theorem dJ23_inflate_18 : decode cJ23_inflate 18 = .ok (.getfield 15, 3) := dk_180 0 15 (dk_at dksJ23_inflate_0 18 rfl rfl)
theorem dJ23_inflate_21 : decode cJ23_inflate 21 = .ok (.iconst 0, 1) := dk_3 (dk_at dksJ23_inflate_0 21 rfl rfl)
theorem dJ23_inflate_22 : decode cJ23_inflate 22 = .ok (.aload_n 1, 1) := dk_43 (dk_at dksJ23_inflate_0 22 rfl rfl)
theorem dJ23_inflate_23 : decode cJ23_inflate 23 = .ok (.iconst 0, 1) := dk_3 (dk_at dksJ23_inflate_0 23 rfl rfl)
theorem dJ23_inflate_24 : decode cJ23_inflate 24 = .ok (.aload_n 0, 1) := dk_42 (dk_at dksJ23_inflate_1 0 rfl rfl)
theorem dJ23_inflate_25 : decode cJ23_inflate 25 = .ok (.getfield 79, 3) := dk_180 0 79 (dk_at dksJ23_inflate_1 1 rfl rfl)
theorem dJ23_inflate_28 : decode cJ23_inflate 28 = .ok (.invokestatic 125, 3) := dk_184 0 125 (dk_at dksJ23_inflate_1 4 rfl rfl)
theorem dJ23_inflate_31 : decode cJ23_inflate 31 = .ok (.aload_n 0, 1) := dk_42 (dk_at dksJ23_inflate_1 7 rfl rfl)
theorem dJ23_inflate_32 : decode cJ23_inflate 32 = .ok (.aload_n 1, 1) := dk_43 (dk_at dksJ23_inflate_1 8 rfl rfl)
theorem dJ23_inflate_33 : decode cJ23_inflate 33 = .ok (.putfield 15, 3) := dk_181 0 15 (dk_at dksJ23_inflate_1 9 rfl rfl)
theorem dJ23_inflate_36 : decode cJ23_inflate 36 = .ok (.aload_n 0, 1) := dk_42 (dk_at dksJ23_inflate_1 12 rfl rfl)
theorem dJ23_inflate_37 : decode cJ23_inflate 37 = .ok (.iconst 1, 1) := dk_4 (dk_at dksJ23_inflate_1 13 rfl rfl)
theorem dJ23_inflate_38 : decode cJ23_inflate 38 = .ok (.putfield 22, 3) := dk_181 0 22 (dk_at dksJ23_inflate_1 14 rfl rfl)
theorem dJ23_inflate_41 : decode cJ23_inflate 41 = .ok (.return_, 1) := dk_177 (dk_at dksJ23_inflate_1 17 rfl rfl)
theorem dJ23_getValue_0 : decode cJ23_getValue 0 = .ok (.aload_n 0, 1) := by decide +kernel
theorem dJ23_getValue_1 : decode cJ23_getValue 1 = .ok (.getfield 15, 3) := by decide +kernel
theorem dJ23_getValue_4 : decode cJ23_getValue 4 = .ok (.areturn, 1) := by decide +kernel
theorem dJ23_length_0 : decode cJ23_length 0 = .ok (.aload_n 0, 1) := by decide +kernel
theorem dJ23_length_1 : decode cJ23_length 1 = .ok (.getfield 79, 3) := by decide +kernel
theorem dJ23_length_4 : decode cJ23_length 4 = .ok (.ireturn, 1) := by decide +kernel
def dkwJ24_init_0 : List UInt8 := [42, 16, 16, 183, 0, 1, 177]
abbrev dktJ24_init_0 : List UInt8 := dkwJ24_init_0 ++ []
theorem dksJ24_init_0 : cJ24_init.data.toList.drop 0 = dktJ24_init_0 := by decide +kernel
theorem dJ24_init_0 : decode cJ24_init 0 = .ok (.aload_n 0, 1) := dk_42 (dk_at dksJ24_init_0 0 rfl rfl)
theorem dJ24_init_1 : decode cJ24_init 1 = .ok (.bipush 16, 2) := dk_16 16 (dk_at dksJ24_init_0 1 rfl rfl)
theorem dJ24_init_3 : decode cJ24_init 3 = .ok (.invokespecial 1, 3) := dk_183 0 1 (dk_at dksJ24_init_0 3 rfl rfl)
theorem dJ24_init_6 : decode cJ24_init 6 = .ok (.return_, 1) := dk_177 (dk_at dksJ24_init_0 6 rfl rfl)
def dkwJ24_append_0 : List UInt8 := [42, 43, 183, 0, 29, 87, 42, 176]
abbrev dktJ24_append_0 : List UInt8 := dkwJ24_append_0 ++ []
theorem dksJ24_append_0 : cJ24_append.data.toList.drop 0 = dktJ24_append_0 := by decide +kernel
theorem dJ24_append_0 : decode cJ24_append 0 = .ok (.aload_n 0, 1) := dk_42 (dk_at dksJ24_append_0 0 rfl rfl)
theorem dJ24_append_1 : decode cJ24_append 1 = .ok (.aload_n 1, 1) := dk_43 (dk_at dksJ24_append_0 1 rfl rfl)
theorem dJ24_append_2 : decode cJ24_append 2 = .ok (.invokespecial 29, 3) := dk_183 0 29 (dk_at dksJ24_append_0 2 rfl rfl)
theorem dJ24_append_5 : decode cJ24_append 5 = .ok (.pop, 1) := dk_87 (dk_at dksJ24_append_0 5 rfl rfl)
theorem dJ24_append_6 : decode cJ24_append 6 = .ok (.aload_n 0, 1) := dk_42 (dk_at dksJ24_append_0 6 rfl rfl)
theorem dJ24_append_7 : decode cJ24_append 7 = .ok (.areturn, 1) := dk_176 (dk_at dksJ24_append_0 7 rfl rfl)
def dkwJ24_toString_0 : List UInt8 := [187, 0, 18, 89, 42, 183, 0, 137, 176]
abbrev dktJ24_toString_0 : List UInt8 := dkwJ24_toString_0 ++ []
theorem dksJ24_toString_0 : cJ24_toString.data.toList.drop 0 = dktJ24_toString_0 := by decide +kernel
theorem dJ24_toString_0 : decode cJ24_toString 0 = .ok (.new 18, 3) := dk_187 0 18 (dk_at dksJ24_toString_0 0 rfl rfl)
theorem dJ24_toString_3 : decode cJ24_toString 3 = .ok (.dup, 1) := dk_89 (dk_at dksJ24_toString_0 3 rfl rfl)
theorem dJ24_toString_4 : decode cJ24_toString 4 = .ok (.aload_n 0, 1) := dk_42 (dk_at dksJ24_toString_0 4 rfl rfl)
theorem dJ24_toString_5 : decode cJ24_toString 5 = .ok (.invokespecial 137, 3) := dk_183 0 137 (dk_at dksJ24_toString_0 5 rfl rfl)
theorem dJ24_toString_8 : decode cJ24_toString 8 = .ok (.areturn, 1) := dk_176 (dk_at dksJ24_toString_0 8 rfl rfl)
theorem dJ24_length_0 : decode cJ24_length 0 = .ok (.aload_n 0, 1) := by decide +kernel
theorem dJ24_length_1 : decode cJ24_length 1 = .ok (.invokespecial 343, 3) := by decide +kernel
theorem dJ24_length_4 : decode cJ24_length 4 = .ok (.ireturn, 1) := by decide +kernel
def dkwJ25_checkBoundsBeginEnd_0 : List UInt8 := [26, 27, 28, 178, 4, 29, 184, 4, 38, 87, 177]
abbrev dktJ25_checkBoundsBeginEnd_0 : List UInt8 := dkwJ25_checkBoundsBeginEnd_0 ++ []
theorem dksJ25_checkBoundsBeginEnd_0 : cJ25_checkBoundsBeginEnd.data.toList.drop 0 = dktJ25_checkBoundsBeginEnd_0 := by decide +kernel
theorem dJ25_checkBoundsBeginEnd_0 : decode cJ25_checkBoundsBeginEnd 0 = .ok (.iload_n 0, 1) := dk_26 (dk_at dksJ25_checkBoundsBeginEnd_0 0 rfl rfl)
theorem dJ25_checkBoundsBeginEnd_1 : decode cJ25_checkBoundsBeginEnd 1 = .ok (.iload_n 1, 1) := dk_27 (dk_at dksJ25_checkBoundsBeginEnd_0 1 rfl rfl)
theorem dJ25_checkBoundsBeginEnd_2 : decode cJ25_checkBoundsBeginEnd 2 = .ok (.iload_n 2, 1) := dk_28 (dk_at dksJ25_checkBoundsBeginEnd_0 2 rfl rfl)
theorem dJ25_checkBoundsBeginEnd_3 : decode cJ25_checkBoundsBeginEnd 3 = .ok (.getstatic 1053, 3) := dk_178 4 29 (dk_at dksJ25_checkBoundsBeginEnd_0 3 rfl rfl)
theorem dJ25_checkBoundsBeginEnd_6 : decode cJ25_checkBoundsBeginEnd 6 = .ok (.invokestatic 1062, 3) := dk_184 4 38 (dk_at dksJ25_checkBoundsBeginEnd_0 6 rfl rfl)
theorem dJ25_checkBoundsBeginEnd_9 : decode cJ25_checkBoundsBeginEnd 9 = .ok (.pop, 1) := dk_87 (dk_at dksJ25_checkBoundsBeginEnd_0 9 rfl rfl)
theorem dJ25_checkBoundsBeginEnd_10 : decode cJ25_checkBoundsBeginEnd 10 = .ok (.return_, 1) := dk_177 (dk_at dksJ25_checkBoundsBeginEnd_0 10 rfl rfl)
def dkwJ25_length_0 : List UInt8 := [42, 180, 0, 9, 190, 42, 182, 1, 79, 122, 172]
abbrev dktJ25_length_0 : List UInt8 := dkwJ25_length_0 ++ []
theorem dksJ25_length_0 : cJ25_length.data.toList.drop 0 = dktJ25_length_0 := by decide +kernel
theorem dJ25_length_0 : decode cJ25_length 0 = .ok (.aload_n 0, 1) := dk_42 (dk_at dksJ25_length_0 0 rfl rfl)
theorem dJ25_length_1 : decode cJ25_length 1 = .ok (.getfield 9, 3) := dk_180 0 9 (dk_at dksJ25_length_0 1 rfl rfl)
theorem dJ25_length_4 : decode cJ25_length 4 = .ok (.arraylength, 1) := dk_190 (dk_at dksJ25_length_0 4 rfl rfl)
theorem dJ25_length_5 : decode cJ25_length 5 = .ok (.aload_n 0, 1) := dk_42 (dk_at dksJ25_length_0 5 rfl rfl)
theorem dJ25_length_6 : decode cJ25_length 6 = .ok (.invokevirtual 335, 3) := dk_182 1 79 (dk_at dksJ25_length_0 6 rfl rfl)
theorem dJ25_length_9 : decode cJ25_length 9 = .ok (.ishr, 1) := dk_122 (dk_at dksJ25_length_0 9 rfl rfl)
theorem dJ25_length_10 : decode cJ25_length 10 = .ok (.ireturn, 1) := dk_172 (dk_at dksJ25_length_0 10 rfl rfl)
def dkwJ25_coder_0 : List UInt8 := [178, 0, 38, 153, 0, 10, 42, 180, 0, 15, 167, 0, 4, 4, 172]
abbrev dktJ25_coder_0 : List UInt8 := dkwJ25_coder_0 ++ []
theorem dksJ25_coder_0 : cJ25_coder.data.toList.drop 0 = dktJ25_coder_0 := by decide +kernel
theorem dJ25_coder_0 : decode cJ25_coder 0 = .ok (.getstatic 38, 3) := dk_178 0 38 (dk_at dksJ25_coder_0 0 rfl rfl)
theorem dJ25_coder_3 : decode cJ25_coder 3 = .ok (.ifCond .eq 10, 3) := dk_153 0 10 (dk_at dksJ25_coder_0 3 rfl rfl)
theorem dJ25_coder_6 : decode cJ25_coder 6 = .ok (.aload_n 0, 1) := dk_42 (dk_at dksJ25_coder_0 6 rfl rfl)
theorem dJ25_coder_7 : decode cJ25_coder 7 = .ok (.getfield 15, 3) := dk_180 0 15 (dk_at dksJ25_coder_0 7 rfl rfl)
theorem dJ25_coder_10 : decode cJ25_coder 10 = .ok (.goto 4, 3) := dk_167 0 4 (dk_at dksJ25_coder_0 10 rfl rfl)
theorem dJ25_coder_13 : decode cJ25_coder 13 = .ok (.iconst 1, 1) := dk_4 (dk_at dksJ25_coder_0 13 rfl rfl)
theorem dJ25_coder_14 : decode cJ25_coder 14 = .ok (.ireturn, 1) := dk_172 (dk_at dksJ25_coder_0 14 rfl rfl)
def dkwJ25_checkBoundsOffCount_0 : List UInt8 := [26, 27, 28, 178, 4, 29, 184, 4, 41, 172]
abbrev dktJ25_checkBoundsOffCount_0 : List UInt8 := dkwJ25_checkBoundsOffCount_0 ++ []
theorem dksJ25_checkBoundsOffCount_0 : cJ25_checkBoundsOffCount.data.toList.drop 0 = dktJ25_checkBoundsOffCount_0 := by decide +kernel
theorem dJ25_checkBoundsOffCount_0 : decode cJ25_checkBoundsOffCount 0 = .ok (.iload_n 0, 1) := dk_26 (dk_at dksJ25_checkBoundsOffCount_0 0 rfl rfl)
theorem dJ25_checkBoundsOffCount_1 : decode cJ25_checkBoundsOffCount 1 = .ok (.iload_n 1, 1) := dk_27 (dk_at dksJ25_checkBoundsOffCount_0 1 rfl rfl)
theorem dJ25_checkBoundsOffCount_2 : decode cJ25_checkBoundsOffCount 2 = .ok (.iload_n 2, 1) := dk_28 (dk_at dksJ25_checkBoundsOffCount_0 2 rfl rfl)
theorem dJ25_checkBoundsOffCount_3 : decode cJ25_checkBoundsOffCount 3 = .ok (.getstatic 1053, 3) := dk_178 4 29 (dk_at dksJ25_checkBoundsOffCount_0 3 rfl rfl)
theorem dJ25_checkBoundsOffCount_6 : decode cJ25_checkBoundsOffCount 6 = .ok (.invokestatic 1065, 3) := dk_184 4 41 (dk_at dksJ25_checkBoundsOffCount_0 6 rfl rfl)
theorem dJ25_checkBoundsOffCount_9 : decode cJ25_checkBoundsOffCount 9 = .ok (.ireturn, 1) := dk_172 (dk_at dksJ25_checkBoundsOffCount_0 9 rfl rfl)
def dkwJ25_getBytes_1 : List UInt8 := [184, 0, 212, 167, 0, 18, 42, 180, 0, 9, 3, 43, 28, 42, 180, 0, 9, 190, 184, 0, 106, 177]
abbrev dktJ25_getBytes_1 : List UInt8 := dkwJ25_getBytes_1 ++ []
def dkwJ25_getBytes_0 : List UInt8 := [42, 182, 1, 79, 29, 160, 0, 23, 42, 180, 0, 9, 3, 43, 28, 29, 120, 42, 180, 0, 9, 190]
abbrev dktJ25_getBytes_0 : List UInt8 := dkwJ25_getBytes_0 ++ dktJ25_getBytes_1
theorem dksJ25_getBytes_0 : cJ25_getBytes.data.toList.drop 0 = dktJ25_getBytes_0 := by decide +kernel
theorem dksJ25_getBytes_1 : cJ25_getBytes.data.toList.drop 22 = dktJ25_getBytes_1 := dk_seg dksJ25_getBytes_0 22 rfl rfl
theorem dJ25_getBytes_0 : decode cJ25_getBytes 0 = .ok (.aload_n 0, 1) := dk_42 (dk_at dksJ25_getBytes_0 0 rfl rfl)
theorem dJ25_getBytes_1 : decode cJ25_getBytes 1 = .ok (.invokevirtual 335, 3) := dk_182 1 79 (dk_at dksJ25_getBytes_0 1 rfl rfl)
theorem dJ25_getBytes_4 : decode cJ25_getBytes 4 = .ok (.iload_n 3, 1) := dk_29 (dk_at dksJ25_getBytes_0 4 rfl rfl)
theorem dJ25_getBytes_5 : decode cJ25_getBytes 5 = .ok (.if_icmp .ne 23, 3) := dk_160 0 23 (dk_at dksJ25_getBytes_0 5 rfl rfl)
theorem dJ25_getBytes_8 : decode cJ25_getBytes 8 = .ok (.aload_n 0, 1) := dk_42 (dk_at dksJ25_getBytes_0 8 rfl rfl)
theorem dJ25_getBytes_9 : decode cJ25_getBytes 9 = .ok (.getfield 9, 3) := dk_180 0 9 (dk_at dksJ25_getBytes_0 9 rfl rfl)
theorem dJ25_getBytes_12 : decode cJ25_getBytes 12 = .ok (.iconst 0, 1) := dk_3 (dk_at dksJ25_getBytes_0 12 rfl rfl)
theorem dJ25_getBytes_13 : decode cJ25_getBytes 13 = .ok (.aload_n 1, 1) := dk_43 (dk_at dksJ25_getBytes_0 13 rfl rfl)
theorem dJ25_getBytes_14 : decode cJ25_getBytes 14 = .ok (.iload_n 2, 1) := dk_28 (dk_at dksJ25_getBytes_0 14 rfl rfl)
theorem dJ25_getBytes_15 : decode cJ25_getBytes 15 = .ok (.iload_n 3, 1) := dk_29 (dk_at dksJ25_getBytes_0 15 rfl rfl)
theorem dJ25_getBytes_16 : decode cJ25_getBytes 16 = .ok (.ishl, 1) := dk_120 (dk_at dksJ25_getBytes_0 16 rfl rfl)
theorem dJ25_getBytes_17 : decode cJ25_getBytes 17 = .ok (.aload_n 0, 1) := dk_42 (dk_at dksJ25_getBytes_0 17 rfl rfl)
theorem dJ25_getBytes_18 : decode cJ25_getBytes 18 = .ok (.getfield 9, 3) := dk_180 0 9 (dk_at dksJ25_getBytes_0 18 rfl rfl)
theorem dJ25_getBytes_21 : decode cJ25_getBytes 21 = .ok (.arraylength, 1) := dk_190 (dk_at dksJ25_getBytes_0 21 rfl rfl)
theorem dJ25_getBytes_22 : decode cJ25_getBytes 22 = .ok (.invokestatic 212, 3) := dk_184 0 212 (dk_at dksJ25_getBytes_1 0 rfl rfl)
theorem dJ25_getBytes_25 : decode cJ25_getBytes 25 = .ok (.goto 18, 3) := dk_167 0 18 (dk_at dksJ25_getBytes_1 3 rfl rfl)
theorem dJ25_getBytes_28 : decode cJ25_getBytes 28 = .ok (.aload_n 0, 1) := dk_42 (dk_at dksJ25_getBytes_1 6 rfl rfl)
theorem dJ25_getBytes_29 : decode cJ25_getBytes 29 = .ok (.getfield 9, 3) := dk_180 0 9 (dk_at dksJ25_getBytes_1 7 rfl rfl)
theorem dJ25_getBytes_32 : decode cJ25_getBytes 32 = .ok (.iconst 0, 1) := dk_3 (dk_at dksJ25_getBytes_1 10 rfl rfl)
theorem dJ25_getBytes_33 : decode cJ25_getBytes 33 = .ok (.aload_n 1, 1) := dk_43 (dk_at dksJ25_getBytes_1 11 rfl rfl)
theorem dJ25_getBytes_34 : decode cJ25_getBytes 34 = .ok (.iload_n 2, 1) := dk_28 (dk_at dksJ25_getBytes_1 12 rfl rfl)
theorem dJ25_getBytes_35 : decode cJ25_getBytes 35 = .ok (.aload_n 0, 1) := dk_42 (dk_at dksJ25_getBytes_1 13 rfl rfl)
theorem dJ25_getBytes_36 : decode cJ25_getBytes 36 = .ok (.getfield 9, 3) := dk_180 0 9 (dk_at dksJ25_getBytes_1 14 rfl rfl)
theorem dJ25_getBytes_39 : decode cJ25_getBytes 39 = .ok (.arraylength, 1) := dk_190 (dk_at dksJ25_getBytes_1 17 rfl rfl)
theorem dJ25_getBytes_40 : decode cJ25_getBytes 40 = .ok (.invokestatic 106, 3) := dk_184 0 106 (dk_at dksJ25_getBytes_1 18 rfl rfl)
theorem dJ25_getBytes_43 : decode cJ25_getBytes 43 = .ok (.return_, 1) := dk_177 (dk_at dksJ25_getBytes_1 21 rfl rfl)
def dkwJ25_init_0 : List UInt8 := [42, 43, 1, 183, 1, 233, 177]
abbrev dktJ25_init_0 : List UInt8 := dkwJ25_init_0 ++ []
theorem dksJ25_init_0 : cJ25_init.data.toList.drop 0 = dktJ25_init_0 := by decide +kernel
theorem dJ25_init_0 : decode cJ25_init 0 = .ok (.aload_n 0, 1) := dk_42 (dk_at dksJ25_init_0 0 rfl rfl)
theorem dJ25_init_1 : decode cJ25_init 1 = .ok (.aload_n 1, 1) := dk_43 (dk_at dksJ25_init_0 1 rfl rfl)
theorem dJ25_init_2 : decode cJ25_init 2 = .ok (.aconst_null, 1) := dk_1 (dk_at dksJ25_init_0 2 rfl rfl)
theorem dJ25_init_3 : decode cJ25_init 3 = .ok (.invokespecial 489, 3) := dk_183 1 233 (dk_at dksJ25_init_0 3 rfl rfl)
theorem dJ25_init_6 : decode cJ25_init 6 = .ok (.return_, 1) := dk_177 (dk_at dksJ25_init_0 6 rfl rfl)
def dkwJ25_init_2_4 : List UInt8 := [181, 0, 9, 177]
abbrev dktJ25_init_2_4 : List UInt8 := dkwJ25_init_2_4 ++ []
def dkwJ25_init_2_3 : List UInt8 := [184, 0, 47, 181, 0, 15, 177, 42, 4, 181, 0, 15, 42, 45, 3, 21, 4, 4, 120, 184, 0, 54]
abbrev dktJ25_init_2_3 : List UInt8 := dkwJ25_init_2_3 ++ dktJ25_init_2_4
def dkwJ25_init_2_2 : List UInt8 := [180, 4, 24, 153, 0, 28, 42, 45, 3, 21, 4, 184, 4, 27, 181, 0, 9, 42, 42, 180, 0, 9, 21, 4]
abbrev dktJ25_init_2_2 : List UInt8 := dkwJ25_init_2_2 ++ dktJ25_init_2_3
def dkwJ25_init_2_1 : List UInt8 := [181, 0, 15, 42, 45, 3, 21, 4, 184, 0, 54, 181, 0, 9, 167, 0, 59, 178, 0, 38, 153, 0, 35, 43]
abbrev dktJ25_init_2_1 : List UInt8 := dkwJ25_init_2_1 ++ dktJ25_init_2_2
def dkwJ25_init_2_0 : List UInt8 := [42, 183, 0, 1, 43, 182, 2, 40, 78, 43, 182, 2, 37, 54, 4, 43, 182, 4, 23, 153, 0, 22, 42, 3]
abbrev dktJ25_init_2_0 : List UInt8 := dkwJ25_init_2_0 ++ dktJ25_init_2_1
theorem dksJ25_init_2_0 : cJ25_init_2.data.toList.drop 0 = dktJ25_init_2_0 := by decide +kernel
theorem dksJ25_init_2_1 : cJ25_init_2.data.toList.drop 24 = dktJ25_init_2_1 := dk_seg dksJ25_init_2_0 24 rfl rfl
theorem dksJ25_init_2_2 : cJ25_init_2.data.toList.drop 48 = dktJ25_init_2_2 := dk_seg dksJ25_init_2_1 24 rfl rfl
theorem dksJ25_init_2_3 : cJ25_init_2.data.toList.drop 72 = dktJ25_init_2_3 := dk_seg dksJ25_init_2_2 24 rfl rfl
theorem dksJ25_init_2_4 : cJ25_init_2.data.toList.drop 94 = dktJ25_init_2_4 := dk_seg dksJ25_init_2_3 22 rfl rfl
theorem dJ25_init_2_0 : decode cJ25_init_2 0 = .ok (.aload_n 0, 1) := dk_42 (dk_at dksJ25_init_2_0 0 rfl rfl)
theorem dJ25_init_2_1 : decode cJ25_init_2 1 = .ok (.invokespecial 1, 3) := dk_183 0 1 (dk_at dksJ25_init_2_0 1 rfl rfl)
theorem dJ25_init_2_4 : decode cJ25_init_2 4 = .ok (.aload_n 1, 1) := dk_43 (dk_at dksJ25_init_2_0 4 rfl rfl)
theorem dJ25_init_2_5 : decode cJ25_init_2 5 = .ok (.invokevirtual 552, 3) := dk_182 2 40 (dk_at dksJ25_init_2_0 5 rfl rfl)
theorem dJ25_init_2_8 : decode cJ25_init_2 8 = .ok (.astore_n 3, 1) := dk_78 (dk_at dksJ25_init_2_0 8 rfl rfl)
theorem dJ25_init_2_9 : decode cJ25_init_2 9 = .ok (.aload_n 1, 1) := dk_43 (dk_at dksJ25_init_2_0 9 rfl rfl)
theorem dJ25_init_2_10 : decode cJ25_init_2 10 = .ok (.invokevirtual 549, 3) := dk_182 2 37 (dk_at dksJ25_init_2_0 10 rfl rfl)
theorem dJ25_init_2_13 : decode cJ25_init_2 13 = .ok (.istore 4, 2) := dk_54 4 (dk_at dksJ25_init_2_0 13 rfl rfl)
theorem dJ25_init_2_15 : decode cJ25_init_2 15 = .ok (.aload_n 1, 1) := dk_43 (dk_at dksJ25_init_2_0 15 rfl rfl)
theorem dJ25_init_2_16 : decode cJ25_init_2 16 = .ok (.invokevirtual 1047, 3) := dk_182 4 23 (dk_at dksJ25_init_2_0 16 rfl rfl)
theorem dJ25_init_2_19 : decode cJ25_init_2 19 = .ok (.ifCond .eq 22, 3) := dk_153 0 22 (dk_at dksJ25_init_2_0 19 rfl rfl)
theorem dJ25_init_2_22 : decode cJ25_init_2 22 = .ok (.aload_n 0, 1) := dk_42 (dk_at dksJ25_init_2_0 22 rfl rfl)
theorem dJ25_init_2_23 : decode cJ25_init_2 23 = .ok (.iconst 0, 1) := dk_3 (dk_at dksJ25_init_2_0 23 rfl rfl)
theorem dJ25_init_2_24 : decode cJ25_init_2 24 = .ok (.putfield 15, 3) := dk_181 0 15 (dk_at dksJ25_init_2_1 0 rfl rfl)
theorem dJ25_init_2_27 : decode cJ25_init_2 27 = .ok (.aload_n 0, 1) := dk_42 (dk_at dksJ25_init_2_1 3 rfl rfl)
theorem dJ25_init_2_28 : decode cJ25_init_2 28 = .ok (.aload_n 3, 1) := dk_45 (dk_at dksJ25_init_2_1 4 rfl rfl)
theorem dJ25_init_2_29 : decode cJ25_init_2 29 = .ok (.iconst 0, 1) := dk_3 (dk_at dksJ25_init_2_1 5 rfl rfl)
theorem dJ25_init_2_30 : decode cJ25_init_2 30 = .ok (.iload 4, 2) := dk_21 4 (dk_at dksJ25_init_2_1 6 rfl rfl)
theorem dJ25_init_2_32 : decode cJ25_init_2 32 = .ok (.invokestatic 54, 3) := dk_184 0 54 (dk_at dksJ25_init_2_1 8 rfl rfl)
theorem dJ25_init_2_35 : decode cJ25_init_2 35 = .ok (.putfield 9, 3) := dk_181 0 9 (dk_at dksJ25_init_2_1 11 rfl rfl)
theorem dJ25_init_2_38 : decode cJ25_init_2 38 = .ok (.goto 59, 3) := dk_167 0 59 (dk_at dksJ25_init_2_1 14 rfl rfl)
theorem dJ25_init_2_41 : decode cJ25_init_2 41 = .ok (.getstatic 38, 3) := dk_178 0 38 (dk_at dksJ25_init_2_1 17 rfl rfl)
theorem dJ25_init_2_44 : decode cJ25_init_2 44 = .ok (.ifCond .eq 35, 3) := dk_153 0 35 (dk_at dksJ25_init_2_1 20 rfl rfl)
theorem dJ25_init_2_47 : decode cJ25_init_2 47 = .ok (.aload_n 1, 1) := dk_43 (dk_at dksJ25_init_2_1 23 rfl rfl)
theorem dJ25_init_2_48 : decode cJ25_init_2 48 = .ok (.getfield 1048, 3) := dk_180 4 24 (dk_at dksJ25_init_2_2 0 rfl rfl)
theorem dJ25_init_2_51 : decode cJ25_init_2 51 = .ok (.ifCond .eq 28, 3) := dk_153 0 28 (dk_at dksJ25_init_2_2 3 rfl rfl)
theorem dJ25_init_2_54 : decode cJ25_init_2 54 = .ok (.aload_n 0, 1) := dk_42 (dk_at dksJ25_init_2_2 6 rfl rfl)
theorem dJ25_init_2_55 : decode cJ25_init_2 55 = .ok (.aload_n 3, 1) := dk_45 (dk_at dksJ25_init_2_2 7 rfl rfl)
theorem dJ25_init_2_56 : decode cJ25_init_2 56 = .ok (.iconst 0, 1) := dk_3 (dk_at dksJ25_init_2_2 8 rfl rfl)
theorem dJ25_init_2_57 : decode cJ25_init_2 57 = .ok (.iload 4, 2) := dk_21 4 (dk_at dksJ25_init_2_2 9 rfl rfl)
theorem dJ25_init_2_59 : decode cJ25_init_2 59 = .ok (.invokestatic 1051, 3) := dk_184 4 27 (dk_at dksJ25_init_2_2 11 rfl rfl)
theorem dJ25_init_2_62 : decode cJ25_init_2 62 = .ok (.putfield 9, 3) := dk_181 0 9 (dk_at dksJ25_init_2_2 14 rfl rfl)
theorem dJ25_init_2_65 : decode cJ25_init_2 65 = .ok (.aload_n 0, 1) := dk_42 (dk_at dksJ25_init_2_2 17 rfl rfl)
theorem dJ25_init_2_66 : decode cJ25_init_2 66 = .ok (.aload_n 0, 1) := dk_42 (dk_at dksJ25_init_2_2 18 rfl rfl)
theorem dJ25_init_2_67 : decode cJ25_init_2 67 = .ok (.getfield 9, 3) := dk_180 0 9 (dk_at dksJ25_init_2_2 19 rfl rfl)
theorem dJ25_init_2_70 : decode cJ25_init_2 70 = .ok (.iload 4, 2) := dk_21 4 (dk_at dksJ25_init_2_2 22 rfl rfl)
theorem dJ25_init_2_72 : decode cJ25_init_2 72 = .ok (.invokestatic 47, 3) := dk_184 0 47 (dk_at dksJ25_init_2_3 0 rfl rfl)
theorem dJ25_init_2_75 : decode cJ25_init_2 75 = .ok (.putfield 15, 3) := dk_181 0 15 (dk_at dksJ25_init_2_3 3 rfl rfl)
theorem dJ25_init_2_78 : decode cJ25_init_2 78 = .ok (.return_, 1) := dk_177 (dk_at dksJ25_init_2_3 6 rfl rfl)
theorem dJ25_init_2_79 : decode cJ25_init_2 79 = .ok (.aload_n 0, 1) := dk_42 (dk_at dksJ25_init_2_3 7 rfl rfl)
theorem dJ25_init_2_80 : decode cJ25_init_2 80 = .ok (.iconst 1, 1) := dk_4 (dk_at dksJ25_init_2_3 8 rfl rfl)
theorem dJ25_init_2_81 : decode cJ25_init_2 81 = .ok (.putfield 15, 3) := dk_181 0 15 (dk_at dksJ25_init_2_3 9 rfl rfl)
theorem dJ25_init_2_84 : decode cJ25_init_2 84 = .ok (.aload_n 0, 1) := dk_42 (dk_at dksJ25_init_2_3 12 rfl rfl)
theorem dJ25_init_2_85 : decode cJ25_init_2 85 = .ok (.aload_n 3, 1) := dk_45 (dk_at dksJ25_init_2_3 13 rfl rfl)
theorem dJ25_init_2_86 : decode cJ25_init_2 86 = .ok (.iconst 0, 1) := dk_3 (dk_at dksJ25_init_2_3 14 rfl rfl)
theorem dJ25_init_2_87 : decode cJ25_init_2 87 = .ok (.iload 4, 2) := dk_21 4 (dk_at dksJ25_init_2_3 15 rfl rfl)
theorem dJ25_init_2_89 : decode cJ25_init_2 89 = .ok (.iconst 1, 1) := dk_4 (dk_at dksJ25_init_2_3 17 rfl rfl)
theorem dJ25_init_2_90 : decode cJ25_init_2 90 = .ok (.ishl, 1) := dk_120 (dk_at dksJ25_init_2_3 18 rfl rfl)
theorem dJ25_init_2_91 : decode cJ25_init_2 91 = .ok (.invokestatic 54, 3) := dk_184 0 54 (dk_at dksJ25_init_2_3 19 rfl rfl)
theorem dJ25_init_2_94 : decode cJ25_init_2 94 = .ok (.putfield 9, 3) := dk_181 0 9 (dk_at dksJ25_init_2_4 0 rfl rfl)
theorem dJ25_init_2_97 : decode cJ25_init_2 97 = .ok (.return_, 1) := dk_177 (dk_at dksJ25_init_2_4 3 rfl rfl)
def dkwJ25_indexOf_0 : List UInt8 := [42, 27, 3, 182, 2, 121, 172]
abbrev dktJ25_indexOf_0 : List UInt8 := dkwJ25_indexOf_0 ++ []
theorem dksJ25_indexOf_0 : cJ25_indexOf.data.toList.drop 0 = dktJ25_indexOf_0 := by decide +kernel
theorem dJ25_indexOf_0 : decode cJ25_indexOf 0 = .ok (.aload_n 0, 1) := dk_42 (dk_at dksJ25_indexOf_0 0 rfl rfl)
theorem dJ25_indexOf_1 : decode cJ25_indexOf 1 = .ok (.iload_n 1, 1) := dk_27 (dk_at dksJ25_indexOf_0 1 rfl rfl)
theorem dJ25_indexOf_2 : decode cJ25_indexOf 2 = .ok (.iconst 0, 1) := dk_3 (dk_at dksJ25_indexOf_0 2 rfl rfl)
theorem dJ25_indexOf_3 : decode cJ25_indexOf 3 = .ok (.invokevirtual 633, 3) := dk_182 2 121 (dk_at dksJ25_indexOf_0 3 rfl rfl)
theorem dJ25_indexOf_6 : decode cJ25_indexOf 6 = .ok (.ireturn, 1) := dk_172 (dk_at dksJ25_indexOf_0 6 rfl rfl)
def dkwJ25_indexOf_2_1 : List UInt8 := [180, 0, 9, 27, 28, 42, 182, 1, 249, 184, 2, 128, 172]
abbrev dktJ25_indexOf_2_1 : List UInt8 := dkwJ25_indexOf_2_1 ++ []
def dkwJ25_indexOf_2_0 : List UInt8 := [42, 182, 1, 236, 153, 0, 19, 42, 180, 0, 9, 27, 28, 42, 182, 1, 249, 184, 2, 125, 167, 0, 16, 42]
abbrev dktJ25_indexOf_2_0 : List UInt8 := dkwJ25_indexOf_2_0 ++ dktJ25_indexOf_2_1
theorem dksJ25_indexOf_2_0 : cJ25_indexOf_2.data.toList.drop 0 = dktJ25_indexOf_2_0 := by decide +kernel
theorem dksJ25_indexOf_2_1 : cJ25_indexOf_2.data.toList.drop 24 = dktJ25_indexOf_2_1 := dk_seg dksJ25_indexOf_2_0 24 rfl rfl
theorem dJ25_indexOf_2_0 : decode cJ25_indexOf_2 0 = .ok (.aload_n 0, 1) := dk_42 (dk_at dksJ25_indexOf_2_0 0 rfl rfl)
theorem dJ25_indexOf_2_1 : decode cJ25_indexOf_2 1 = .ok (.invokevirtual 492, 3) := dk_182 1 236 (dk_at dksJ25_indexOf_2_0 1 rfl rfl)
theorem dJ25_indexOf_2_4 : decode cJ25_indexOf_2 4 = .ok (.ifCond .eq 19, 3) := dk_153 0 19 (dk_at dksJ25_indexOf_2_0 4 rfl rfl)
theorem dJ25_indexOf_2_7 : decode cJ25_indexOf_2 7 = .ok (.aload_n 0, 1) := dk_42 (dk_at dksJ25_indexOf_2_0 7 rfl rfl)
theorem dJ25_indexOf_2_8 : decode cJ25_indexOf_2 8 = .ok (.getfield 9, 3) := dk_180 0 9 (dk_at dksJ25_indexOf_2_0 8 rfl rfl)
theorem dJ25_indexOf_2_11 : decode cJ25_indexOf_2 11 = .ok (.iload_n 1, 1) := dk_27 (dk_at dksJ25_indexOf_2_0 11 rfl rfl)
theorem dJ25_indexOf_2_12 : decode cJ25_indexOf_2 12 = .ok (.iload_n 2, 1) := dk_28 (dk_at dksJ25_indexOf_2_0 12 rfl rfl)
theorem dJ25_indexOf_2_13 : decode cJ25_indexOf_2 13 = .ok (.aload_n 0, 1) := dk_42 (dk_at dksJ25_indexOf_2_0 13 rfl rfl)
theorem dJ25_indexOf_2_14 : decode cJ25_indexOf_2 14 = .ok (.invokevirtual 505, 3) := dk_182 1 249 (dk_at dksJ25_indexOf_2_0 14 rfl rfl)
theorem dJ25_indexOf_2_17 : decode cJ25_indexOf_2 17 = .ok (.invokestatic 637, 3) := dk_184 2 125 (dk_at dksJ25_indexOf_2_0 17 rfl rfl)
theorem dJ25_indexOf_2_20 : decode cJ25_indexOf_2 20 = .ok (.goto 16, 3) := dk_167 0 16 (dk_at dksJ25_indexOf_2_0 20 rfl rfl)
theorem dJ25_indexOf_2_23 : decode cJ25_indexOf_2 23 = .ok (.aload_n 0, 1) := dk_42 (dk_at dksJ25_indexOf_2_0 23 rfl rfl)
theorem dJ25_indexOf_2_24 : decode cJ25_indexOf_2 24 = .ok (.getfield 9, 3) := dk_180 0 9 (dk_at dksJ25_indexOf_2_1 0 rfl rfl)
theorem dJ25_indexOf_2_27 : decode cJ25_indexOf_2 27 = .ok (.iload_n 1, 1) := dk_27 (dk_at dksJ25_indexOf_2_1 3 rfl rfl)
theorem dJ25_indexOf_2_28 : decode cJ25_indexOf_2 28 = .ok (.iload_n 2, 1) := dk_28 (dk_at dksJ25_indexOf_2_1 4 rfl rfl)
theorem dJ25_indexOf_2_29 : decode cJ25_indexOf_2 29 = .ok (.aload_n 0, 1) := dk_42 (dk_at dksJ25_indexOf_2_1 5 rfl rfl)
theorem dJ25_indexOf_2_30 : decode cJ25_indexOf_2 30 = .ok (.invokevirtual 505, 3) := dk_182 1 249 (dk_at dksJ25_indexOf_2_1 6 rfl rfl)
theorem dJ25_indexOf_2_33 : decode cJ25_indexOf_2 33 = .ok (.invokestatic 640, 3) := dk_184 2 128 (dk_at dksJ25_indexOf_2_1 9 rfl rfl)
theorem dJ25_indexOf_2_36 : decode cJ25_indexOf_2 36 = .ok (.ireturn, 1) := dk_172 (dk_at dksJ25_indexOf_2_1 12 rfl rfl)
def dkwJ25_isLatin1_0 : List UInt8 := [178, 0, 38, 153, 0, 14, 42, 180, 0, 15, 154, 0, 7, 4, 167, 0, 4, 3, 172]
abbrev dktJ25_isLatin1_0 : List UInt8 := dkwJ25_isLatin1_0 ++ []
theorem dksJ25_isLatin1_0 : cJ25_isLatin1.data.toList.drop 0 = dktJ25_isLatin1_0 := by decide +kernel
theorem dJ25_isLatin1_0 : decode cJ25_isLatin1 0 = .ok (.getstatic 38, 3) := dk_178 0 38 (dk_at dksJ25_isLatin1_0 0 rfl rfl)
theorem dJ25_isLatin1_3 : decode cJ25_isLatin1 3 = .ok (.ifCond .eq 14, 3) := dk_153 0 14 (dk_at dksJ25_isLatin1_0 3 rfl rfl)
theorem dJ25_isLatin1_6 : decode cJ25_isLatin1 6 = .ok (.aload_n 0, 1) := dk_42 (dk_at dksJ25_isLatin1_0 6 rfl rfl)
theorem dJ25_isLatin1_7 : decode cJ25_isLatin1 7 = .ok (.getfield 15, 3) := dk_180 0 15 (dk_at dksJ25_isLatin1_0 7 rfl rfl)
theorem dJ25_isLatin1_10 : decode cJ25_isLatin1 10 = .ok (.ifCond .ne 7, 3) := dk_154 0 7 (dk_at dksJ25_isLatin1_0 10 rfl rfl)
theorem dJ25_isLatin1_13 : decode cJ25_isLatin1 13 = .ok (.iconst 1, 1) := dk_4 (dk_at dksJ25_isLatin1_0 13 rfl rfl)
theorem dJ25_isLatin1_14 : decode cJ25_isLatin1 14 = .ok (.goto 4, 3) := dk_167 0 4 (dk_at dksJ25_isLatin1_0 14 rfl rfl)
theorem dJ25_isLatin1_17 : decode cJ25_isLatin1 17 = .ok (.iconst 0, 1) := dk_3 (dk_at dksJ25_isLatin1_0 17 rfl rfl)
theorem dJ25_isLatin1_18 : decode cJ25_isLatin1 18 = .ok (.ireturn, 1) := dk_172 (dk_at dksJ25_isLatin1_0 18 rfl rfl)
def dkwJ26_newBytesFor_0 : List UInt8 := [26, 184, 0, 11, 188, 8, 176]
abbrev dktJ26_newBytesFor_0 : List UInt8 := dkwJ26_newBytesFor_0 ++ []
theorem dksJ26_newBytesFor_0 : cJ26_newBytesFor.data.toList.drop 0 = dktJ26_newBytesFor_0 := by decide +kernel
theorem dJ26_newBytesFor_0 : decode cJ26_newBytesFor 0 = .ok (.iload_n 0, 1) := dk_26 (dk_at dksJ26_newBytesFor_0 0 rfl rfl)
theorem dJ26_newBytesFor_1 : decode cJ26_newBytesFor 1 = .ok (.invokestatic 11, 3) := dk_184 0 11 (dk_at dksJ26_newBytesFor_0 1 rfl rfl)
theorem dJ26_newBytesFor_4 : decode cJ26_newBytesFor 4 = .ok (.newarray .byte, 2) := dk_188_8 (dk_at dksJ26_newBytesFor_0 4 rfl rfl)
theorem dJ26_newBytesFor_6 : decode cJ26_newBytesFor 6 = .ok (.areturn, 1) := dk_176 (dk_at dksJ26_newBytesFor_0 6 rfl rfl)
def dkwJ26_newBytesLength_2 : List UInt8 := [182, 0, 32, 182, 0, 37, 183, 0, 41, 191, 26, 4, 120, 172]
abbrev dktJ26_newBytesLength_2 : List UInt8 := dkwJ26_newBytesLength_2 ++ []
def dkwJ26_newBytesLength_1 : List UInt8 := [187, 0, 23, 89, 183, 0, 25, 18, 26, 182, 0, 28, 26, 182, 0, 32, 18, 35, 182, 0, 28, 18, 20]
abbrev dktJ26_newBytesLength_1 : List UInt8 := dkwJ26_newBytesLength_1 ++ dktJ26_newBytesLength_2
def dkwJ26_newBytesLength_0 : List UInt8 := [26, 156, 0, 11, 187, 0, 17, 89, 183, 0, 19, 191, 26, 18, 20, 161, 0, 40, 187, 0, 21, 89]
abbrev dktJ26_newBytesLength_0 : List UInt8 := dkwJ26_newBytesLength_0 ++ dktJ26_newBytesLength_1
theorem dksJ26_newBytesLength_0 : cJ26_newBytesLength.data.toList.drop 0 = dktJ26_newBytesLength_0 := by decide +kernel
theorem dksJ26_newBytesLength_1 : cJ26_newBytesLength.data.toList.drop 22 = dktJ26_newBytesLength_1 := dk_seg dksJ26_newBytesLength_0 22 rfl rfl
theorem dksJ26_newBytesLength_2 : cJ26_newBytesLength.data.toList.drop 45 = dktJ26_newBytesLength_2 := dk_seg dksJ26_newBytesLength_1 23 rfl rfl
theorem dJ26_newBytesLength_0 : decode cJ26_newBytesLength 0 = .ok (.iload_n 0, 1) := dk_26 (dk_at dksJ26_newBytesLength_0 0 rfl rfl)
theorem dJ26_newBytesLength_1 : decode cJ26_newBytesLength 1 = .ok (.ifCond .ge 11, 3) := dk_156 0 11 (dk_at dksJ26_newBytesLength_0 1 rfl rfl)
theorem dJ26_newBytesLength_4 : decode cJ26_newBytesLength 4 = .ok (.new 17, 3) := dk_187 0 17 (dk_at dksJ26_newBytesLength_0 4 rfl rfl)
theorem dJ26_newBytesLength_7 : decode cJ26_newBytesLength 7 = .ok (.dup, 1) := dk_89 (dk_at dksJ26_newBytesLength_0 7 rfl rfl)
theorem dJ26_newBytesLength_8 : decode cJ26_newBytesLength 8 = .ok (.invokespecial 19, 3) := dk_183 0 19 (dk_at dksJ26_newBytesLength_0 8 rfl rfl)
theorem dJ26_newBytesLength_11 : decode cJ26_newBytesLength 11 = .ok (.athrow, 1) := dk_191 (dk_at dksJ26_newBytesLength_0 11 rfl rfl)
theorem dJ26_newBytesLength_12 : decode cJ26_newBytesLength 12 = .ok (.iload_n 0, 1) := dk_26 (dk_at dksJ26_newBytesLength_0 12 rfl rfl)
theorem dJ26_newBytesLength_13 : decode cJ26_newBytesLength 13 = .ok (.ldc 20, 2) := dk_18 20 (dk_at dksJ26_newBytesLength_0 13 rfl rfl)
theorem dJ26_newBytesLength_15 : decode cJ26_newBytesLength 15 = .ok (.if_icmp .lt 40, 3) := dk_161 0 40 (dk_at dksJ26_newBytesLength_0 15 rfl rfl)
theorem dJ26_newBytesLength_18 : decode cJ26_newBytesLength 18 = .ok (.new 21, 3) := dk_187 0 21 (dk_at dksJ26_newBytesLength_0 18 rfl rfl)
theorem dJ26_newBytesLength_21 : decode cJ26_newBytesLength 21 = .ok (.dup, 1) := dk_89 (dk_at dksJ26_newBytesLength_0 21 rfl rfl)
theorem dJ26_newBytesLength_22 : decode cJ26_newBytesLength 22 = .ok (.new 23, 3) := dk_187 0 23 (dk_at dksJ26_newBytesLength_1 0 rfl rfl)
theorem dJ26_newBytesLength_25 : decode cJ26_newBytesLength 25 = .ok (.dup, 1) := dk_89 (dk_at dksJ26_newBytesLength_1 3 rfl rfl)
theorem dJ26_newBytesLength_26 : decode cJ26_newBytesLength 26 = .ok (.invokespecial 25, 3) := dk_183 0 25 (dk_at dksJ26_newBytesLength_1 4 rfl rfl)
theorem dJ26_newBytesLength_29 : decode cJ26_newBytesLength 29 = .ok (.ldc 26, 2) := dk_18 26 (dk_at dksJ26_newBytesLength_1 7 rfl rfl)
theorem dJ26_newBytesLength_31 : decode cJ26_newBytesLength 31 = .ok (.invokevirtual 28, 3) := dk_182 0 28 (dk_at dksJ26_newBytesLength_1 9 rfl rfl)
theorem dJ26_newBytesLength_34 : decode cJ26_newBytesLength 34 = .ok (.iload_n 0, 1) := dk_26 (dk_at dksJ26_newBytesLength_1 12 rfl rfl)
theorem dJ26_newBytesLength_35 : decode cJ26_newBytesLength 35 = .ok (.invokevirtual 32, 3) := dk_182 0 32 (dk_at dksJ26_newBytesLength_1 13 rfl rfl)
theorem dJ26_newBytesLength_38 : decode cJ26_newBytesLength 38 = .ok (.ldc 35, 2) := dk_18 35 (dk_at dksJ26_newBytesLength_1 16 rfl rfl)
theorem dJ26_newBytesLength_40 : decode cJ26_newBytesLength 40 = .ok (.invokevirtual 28, 3) := dk_182 0 28 (dk_at dksJ26_newBytesLength_1 18 rfl rfl)
theorem dJ26_newBytesLength_43 : decode cJ26_newBytesLength 43 = .ok (.ldc 20, 2) := dk_18 20 (dk_at dksJ26_newBytesLength_1 21 rfl rfl)
theorem dJ26_newBytesLength_45 : decode cJ26_newBytesLength 45 = .ok (.invokevirtual 32, 3) := dk_182 0 32 (dk_at dksJ26_newBytesLength_2 0 rfl rfl)
theorem dJ26_newBytesLength_48 : decode cJ26_newBytesLength 48 = .ok (.invokevirtual 37, 3) := dk_182 0 37 (dk_at dksJ26_newBytesLength_2 3 rfl rfl)
theorem dJ26_newBytesLength_51 : decode cJ26_newBytesLength 51 = .ok (.invokespecial 41, 3) := dk_183 0 41 (dk_at dksJ26_newBytesLength_2 6 rfl rfl)
theorem dJ26_newBytesLength_54 : decode cJ26_newBytesLength 54 = .ok (.athrow, 1) := dk_191 (dk_at dksJ26_newBytesLength_2 9 rfl rfl)
theorem dJ26_newBytesLength_55 : decode cJ26_newBytesLength 55 = .ok (.iload_n 0, 1) := dk_26 (dk_at dksJ26_newBytesLength_2 10 rfl rfl)
theorem dJ26_newBytesLength_56 : decode cJ26_newBytesLength 56 = .ok (.iconst 1, 1) := dk_4 (dk_at dksJ26_newBytesLength_2 11 rfl rfl)
theorem dJ26_newBytesLength_57 : decode cJ26_newBytesLength 57 = .ok (.ishl, 1) := dk_120 (dk_at dksJ26_newBytesLength_2 12 rfl rfl)
theorem dJ26_newBytesLength_58 : decode cJ26_newBytesLength 58 = .ok (.ireturn, 1) := dk_172 (dk_at dksJ26_newBytesLength_2 13 rfl rfl)
def dkwJ26_putCharsAt_3 : List UInt8 := [21, 6, 172]
abbrev dktJ26_putCharsAt_3 : List UInt8 := dkwJ26_putCharsAt_3 ++ []
def dkwJ26_putCharsAt_2 : List UInt8 := [184, 0, 111, 178, 0, 44, 154, 0, 17, 27, 21, 6, 159, 0, 11, 187, 0, 52, 89, 183, 0, 66, 191]
abbrev dktJ26_putCharsAt_2 : List UInt8 := dkwJ26_putCharsAt_2 ++ dktJ26_putCharsAt_3
def dkwJ26_putCharsAt_1 : List UInt8 := [132, 1, 1, 29, 184, 0, 111, 42, 27, 132, 1, 1, 21, 4, 184, 0, 111, 42, 27, 132, 1, 1, 21, 5]
abbrev dktJ26_putCharsAt_1 : List UInt8 := dkwJ26_putCharsAt_1 ++ dktJ26_putCharsAt_2
def dkwJ26_putCharsAt_0 : List UInt8 := [27, 7, 96, 54, 6, 27, 21, 6, 42, 184, 0, 96, 42, 27, 132, 1, 1, 28, 184, 0, 111, 42, 27]
abbrev dktJ26_putCharsAt_0 : List UInt8 := dkwJ26_putCharsAt_0 ++ dktJ26_putCharsAt_1
theorem dksJ26_putCharsAt_0 : cJ26_putCharsAt.data.toList.drop 0 = dktJ26_putCharsAt_0 := by decide +kernel
theorem dksJ26_putCharsAt_1 : cJ26_putCharsAt.data.toList.drop 23 = dktJ26_putCharsAt_1 := dk_seg dksJ26_putCharsAt_0 23 rfl rfl
theorem dksJ26_putCharsAt_2 : cJ26_putCharsAt.data.toList.drop 47 = dktJ26_putCharsAt_2 := dk_seg dksJ26_putCharsAt_1 24 rfl rfl
theorem dksJ26_putCharsAt_3 : cJ26_putCharsAt.data.toList.drop 70 = dktJ26_putCharsAt_3 := dk_seg dksJ26_putCharsAt_2 23 rfl rfl
theorem dJ26_putCharsAt_0 : decode cJ26_putCharsAt 0 = .ok (.iload_n 1, 1) := dk_27 (dk_at dksJ26_putCharsAt_0 0 rfl rfl)
theorem dJ26_putCharsAt_1 : decode cJ26_putCharsAt 1 = .ok (.iconst 4, 1) := dk_7 (dk_at dksJ26_putCharsAt_0 1 rfl rfl)
theorem dJ26_putCharsAt_2 : decode cJ26_putCharsAt 2 = .ok (.iadd, 1) := dk_96 (dk_at dksJ26_putCharsAt_0 2 rfl rfl)
theorem dJ26_putCharsAt_3 : decode cJ26_putCharsAt 3 = .ok (.istore 6, 2) := dk_54 6 (dk_at dksJ26_putCharsAt_0 3 rfl rfl)
theorem dJ26_putCharsAt_5 : decode cJ26_putCharsAt 5 = .ok (.iload_n 1, 1) := dk_27 (dk_at dksJ26_putCharsAt_0 5 rfl rfl)
theorem dJ26_putCharsAt_6 : decode cJ26_putCharsAt 6 = .ok (.iload 6, 2) := dk_21 6 (dk_at dksJ26_putCharsAt_0 6 rfl rfl)
theorem dJ26_putCharsAt_8 : decode cJ26_putCharsAt 8 = .ok (.aload_n 0, 1) := dk_42 (dk_at dksJ26_putCharsAt_0 8 rfl rfl)
theorem dJ26_putCharsAt_9 : decode cJ26_putCharsAt 9 = .ok (.invokestatic 96, 3) := dk_184 0 96 (dk_at dksJ26_putCharsAt_0 9 rfl rfl)
theorem dJ26_putCharsAt_12 : decode cJ26_putCharsAt 12 = .ok (.aload_n 0, 1) := dk_42 (dk_at dksJ26_putCharsAt_0 12 rfl rfl)
theorem dJ26_putCharsAt_13 : decode cJ26_putCharsAt 13 = .ok (.iload_n 1, 1) := dk_27 (dk_at dksJ26_putCharsAt_0 13 rfl rfl)
theorem dJ26_putCharsAt_14 : decode cJ26_putCharsAt 14 = .ok (.iinc 1 1, 3) := dk_132 1 1 (dk_at dksJ26_putCharsAt_0 14 rfl rfl)
theorem dJ26_putCharsAt_17 : decode cJ26_putCharsAt 17 = .ok (.iload_n 2, 1) := dk_28 (dk_at dksJ26_putCharsAt_0 17 rfl rfl)
theorem dJ26_putCharsAt_18 : decode cJ26_putCharsAt 18 = .ok (.invokestatic 111, 3) := dk_184 0 111 (dk_at dksJ26_putCharsAt_0 18 rfl rfl)
theorem dJ26_putCharsAt_21 : decode cJ26_putCharsAt 21 = .ok (.aload_n 0, 1) := dk_42 (dk_at dksJ26_putCharsAt_0 21 rfl rfl)
theorem dJ26_putCharsAt_22 : decode cJ26_putCharsAt 22 = .ok (.iload_n 1, 1) := dk_27 (dk_at dksJ26_putCharsAt_0 22 rfl rfl)
theorem dJ26_putCharsAt_23 : decode cJ26_putCharsAt 23 = .ok (.iinc 1 1, 3) := dk_132 1 1 (dk_at dksJ26_putCharsAt_1 0 rfl rfl)
theorem dJ26_putCharsAt_26 : decode cJ26_putCharsAt 26 = .ok (.iload_n 3, 1) := dk_29 (dk_at dksJ26_putCharsAt_1 3 rfl rfl)
theorem dJ26_putCharsAt_27 : decode cJ26_putCharsAt 27 = .ok (.invokestatic 111, 3) := dk_184 0 111 (dk_at dksJ26_putCharsAt_1 4 rfl rfl)
theorem dJ26_putCharsAt_30 : decode cJ26_putCharsAt 30 = .ok (.aload_n 0, 1) := dk_42 (dk_at dksJ26_putCharsAt_1 7 rfl rfl)
theorem dJ26_putCharsAt_31 : decode cJ26_putCharsAt 31 = .ok (.iload_n 1, 1) := dk_27 (dk_at dksJ26_putCharsAt_1 8 rfl rfl)
theorem dJ26_putCharsAt_32 : decode cJ26_putCharsAt 32 = .ok (.iinc 1 1, 3) := dk_132 1 1 (dk_at dksJ26_putCharsAt_1 9 rfl rfl)
theorem dJ26_putCharsAt_35 : decode cJ26_putCharsAt 35 = .ok (.iload 4, 2) := dk_21 4 (dk_at dksJ26_putCharsAt_1 12 rfl rfl)
theorem dJ26_putCharsAt_37 : decode cJ26_putCharsAt 37 = .ok (.invokestatic 111, 3) := dk_184 0 111 (dk_at dksJ26_putCharsAt_1 14 rfl rfl)
theorem dJ26_putCharsAt_40 : decode cJ26_putCharsAt 40 = .ok (.aload_n 0, 1) := dk_42 (dk_at dksJ26_putCharsAt_1 17 rfl rfl)
theorem dJ26_putCharsAt_41 : decode cJ26_putCharsAt 41 = .ok (.iload_n 1, 1) := dk_27 (dk_at dksJ26_putCharsAt_1 18 rfl rfl)
theorem dJ26_putCharsAt_42 : decode cJ26_putCharsAt 42 = .ok (.iinc 1 1, 3) := dk_132 1 1 (dk_at dksJ26_putCharsAt_1 19 rfl rfl)
theorem dJ26_putCharsAt_45 : decode cJ26_putCharsAt 45 = .ok (.iload 5, 2) := dk_21 5 (dk_at dksJ26_putCharsAt_1 22 rfl rfl)
theorem dJ26_putCharsAt_47 : decode cJ26_putCharsAt 47 = .ok (.invokestatic 111, 3) := dk_184 0 111 (dk_at dksJ26_putCharsAt_2 0 rfl rfl)
theorem dJ26_putCharsAt_50 : decode cJ26_putCharsAt 50 = .ok (.getstatic 44, 3) := dk_178 0 44 (dk_at dksJ26_putCharsAt_2 3 rfl rfl)
theorem dJ26_putCharsAt_53 : decode cJ26_putCharsAt 53 = .ok (.ifCond .ne 17, 3) := dk_154 0 17 (dk_at dksJ26_putCharsAt_2 6 rfl rfl)
theorem dJ26_putCharsAt_56 : decode cJ26_putCharsAt 56 = .ok (.iload_n 1, 1) := dk_27 (dk_at dksJ26_putCharsAt_2 9 rfl rfl)
theorem dJ26_putCharsAt_57 : decode cJ26_putCharsAt 57 = .ok (.iload 6, 2) := dk_21 6 (dk_at dksJ26_putCharsAt_2 10 rfl rfl)
theorem dJ26_putCharsAt_59 : decode cJ26_putCharsAt 59 = .ok (.if_icmp .eq 11, 3) := dk_159 0 11 (dk_at dksJ26_putCharsAt_2 12 rfl rfl)
theorem dJ26_putCharsAt_62 : decode cJ26_putCharsAt 62 = .ok (.new 52, 3) := dk_187 0 52 (dk_at dksJ26_putCharsAt_2 15 rfl rfl)
theorem dJ26_putCharsAt_65 : decode cJ26_putCharsAt 65 = .ok (.dup, 1) := dk_89 (dk_at dksJ26_putCharsAt_2 18 rfl rfl)
theorem dJ26_putCharsAt_66 : decode cJ26_putCharsAt 66 = .ok (.invokespecial 66, 3) := dk_183 0 66 (dk_at dksJ26_putCharsAt_2 19 rfl rfl)
theorem dJ26_putCharsAt_69 : decode cJ26_putCharsAt 69 = .ok (.athrow, 1) := dk_191 (dk_at dksJ26_putCharsAt_2 22 rfl rfl)
theorem dJ26_putCharsAt_70 : decode cJ26_putCharsAt 70 = .ok (.iload 6, 2) := dk_21 6 (dk_at dksJ26_putCharsAt_3 0 rfl rfl)
theorem dJ26_putCharsAt_72 : decode cJ26_putCharsAt 72 = .ok (.ireturn, 1) := dk_172 (dk_at dksJ26_putCharsAt_3 2 rfl rfl)
def dkwJ26_checkBoundsBeginEnd_0 : List UInt8 := [26, 27, 44, 184, 0, 48, 184, 0, 241, 177]
abbrev dktJ26_checkBoundsBeginEnd_0 : List UInt8 := dkwJ26_checkBoundsBeginEnd_0 ++ []
theorem dksJ26_checkBoundsBeginEnd_0 : cJ26_checkBoundsBeginEnd.data.toList.drop 0 = dktJ26_checkBoundsBeginEnd_0 := by decide +kernel
theorem dJ26_checkBoundsBeginEnd_0 : decode cJ26_checkBoundsBeginEnd 0 = .ok (.iload_n 0, 1) := dk_26 (dk_at dksJ26_checkBoundsBeginEnd_0 0 rfl rfl)
theorem dJ26_checkBoundsBeginEnd_1 : decode cJ26_checkBoundsBeginEnd 1 = .ok (.iload_n 1, 1) := dk_27 (dk_at dksJ26_checkBoundsBeginEnd_0 1 rfl rfl)
theorem dJ26_checkBoundsBeginEnd_2 : decode cJ26_checkBoundsBeginEnd 2 = .ok (.aload_n 2, 1) := dk_44 (dk_at dksJ26_checkBoundsBeginEnd_0 2 rfl rfl)
theorem dJ26_checkBoundsBeginEnd_3 : decode cJ26_checkBoundsBeginEnd 3 = .ok (.invokestatic 48, 3) := dk_184 0 48 (dk_at dksJ26_checkBoundsBeginEnd_0 3 rfl rfl)
theorem dJ26_checkBoundsBeginEnd_6 : decode cJ26_checkBoundsBeginEnd 6 = .ok (.invokestatic 241, 3) := dk_184 0 241 (dk_at dksJ26_checkBoundsBeginEnd_0 6 rfl rfl)
theorem dJ26_checkBoundsBeginEnd_9 : decode cJ26_checkBoundsBeginEnd 9 = .ok (.return_, 1) := dk_177 (dk_at dksJ26_checkBoundsBeginEnd_0 9 rfl rfl)
def dkwJ26_length_0 : List UInt8 := [42, 190, 4, 122, 172]
abbrev dktJ26_length_0 : List UInt8 := dkwJ26_length_0 ++ []
theorem dksJ26_length_0 : cJ26_length.data.toList.drop 0 = dktJ26_length_0 := by decide +kernel
theorem dJ26_length_0 : decode cJ26_length 0 = .ok (.aload_n 0, 1) := dk_42 (dk_at dksJ26_length_0 0 rfl rfl)
theorem dJ26_length_1 : decode cJ26_length 1 = .ok (.arraylength, 1) := dk_190 (dk_at dksJ26_length_0 1 rfl rfl)
theorem dJ26_length_2 : decode cJ26_length 2 = .ok (.iconst 1, 1) := dk_4 (dk_at dksJ26_length_0 2 rfl rfl)
theorem dJ26_length_3 : decode cJ26_length 3 = .ok (.ishr, 1) := dk_122 (dk_at dksJ26_length_0 3 rfl rfl)
theorem dJ26_length_4 : decode cJ26_length 4 = .ok (.ireturn, 1) := dk_172 (dk_at dksJ26_length_0 4 rfl rfl)
def dkwJ26_putChar_2 : List UInt8 := [178, 0, 63, 122, 145, 84, 177]
abbrev dktJ26_putChar_2 : List UInt8 := dkwJ26_putChar_2 ++ []
def dkwJ26_putChar_1 : List UInt8 := [183, 0, 56, 191, 27, 4, 120, 60, 42, 27, 132, 1, 1, 28, 178, 0, 59, 122, 145, 84, 42, 27, 28]
abbrev dktJ26_putChar_1 : List UInt8 := dkwJ26_putChar_1 ++ dktJ26_putChar_2
def dkwJ26_putChar_0 : List UInt8 := [178, 0, 44, 154, 0, 25, 27, 155, 0, 11, 27, 42, 184, 0, 48, 161, 0, 13, 187, 0, 52, 89, 18, 54]
abbrev dktJ26_putChar_0 : List UInt8 := dkwJ26_putChar_0 ++ dktJ26_putChar_1
theorem dksJ26_putChar_0 : cJ26_putChar.data.toList.drop 0 = dktJ26_putChar_0 := by decide +kernel
theorem dksJ26_putChar_1 : cJ26_putChar.data.toList.drop 24 = dktJ26_putChar_1 := dk_seg dksJ26_putChar_0 24 rfl rfl
theorem dksJ26_putChar_2 : cJ26_putChar.data.toList.drop 47 = dktJ26_putChar_2 := dk_seg dksJ26_putChar_1 23 rfl rfl
theorem dJ26_putChar_0 : decode cJ26_putChar 0 = .ok (.getstatic 44, 3) := dk_178 0 44 (dk_at dksJ26_putChar_0 0 rfl rfl)
theorem dJ26_putChar_3 : decode cJ26_putChar 3 = .ok (.ifCond .ne 25, 3) := dk_154 0 25 (dk_at dksJ26_putChar_0 3 rfl rfl)
theorem dJ26_putChar_6 : decode cJ26_putChar 6 = .ok (.iload_n 1, 1) := dk_27 (dk_at dksJ26_putChar_0 6 rfl rfl)
theorem dJ26_putChar_7 : decode cJ26_putChar 7 = .ok (.ifCond .lt 11, 3) := dk_155 0 11 (dk_at dksJ26_putChar_0 7 rfl rfl)
theorem dJ26_putChar_10 : decode cJ26_putChar 10 = .ok (.iload_n 1, 1) := dk_27 (dk_at dksJ26_putChar_0 10 rfl rfl)
theorem dJ26_putChar_11 : decode cJ26_putChar 11 = .ok (.aload_n 0, 1) := dk_42 (dk_at dksJ26_putChar_0 11 rfl rfl)
theorem dJ26_putChar_12 : decode cJ26_putChar 12 = .ok (.invokestatic 48, 3) := dk_184 0 48 (dk_at dksJ26_putChar_0 12 rfl rfl)
theorem dJ26_putChar_15 : decode cJ26_putChar 15 = .ok (.if_icmp .lt 13, 3) := dk_161 0 13 (dk_at dksJ26_putChar_0 15 rfl rfl)
theorem dJ26_putChar_18 : decode cJ26_putChar 18 = .ok (.new 52, 3) := dk_187 0 52 (dk_at dksJ26_putChar_0 18 rfl rfl)
theorem dJ26_putChar_21 : decode cJ26_putChar 21 = .ok (.dup, 1) := dk_89 (dk_at dksJ26_putChar_0 21 rfl rfl)
theorem dJ26_putChar_22 : decode cJ26_putChar 22 = .ok (.ldc 54, 2) := dk_18 54 (dk_at dksJ26_putChar_0 22 rfl rfl)
theorem dJ26_putChar_24 : decode cJ26_putChar 24 = .ok (.invokespecial 56, 3) := dk_183 0 56 (dk_at dksJ26_putChar_1 0 rfl rfl)
theorem dJ26_putChar_27 : decode cJ26_putChar 27 = .ok (.athrow, 1) := dk_191 (dk_at dksJ26_putChar_1 3 rfl rfl)
theorem dJ26_putChar_28 : decode cJ26_putChar 28 = .ok (.iload_n 1, 1) := dk_27 (dk_at dksJ26_putChar_1 4 rfl rfl)
theorem dJ26_putChar_29 : decode cJ26_putChar 29 = .ok (.iconst 1, 1) := dk_4 (dk_at dksJ26_putChar_1 5 rfl rfl)
theorem dJ26_putChar_30 : decode cJ26_putChar 30 = .ok (.ishl, 1) := dk_120 (dk_at dksJ26_putChar_1 6 rfl rfl)
theorem dJ26_putChar_31 : decode cJ26_putChar 31 = .ok (.istore_n 1, 1) := dk_60 (dk_at dksJ26_putChar_1 7 rfl rfl)
theorem dJ26_putChar_32 : decode cJ26_putChar 32 = .ok (.aload_n 0, 1) := dk_42 (dk_at dksJ26_putChar_1 8 rfl rfl)
theorem dJ26_putChar_33 : decode cJ26_putChar 33 = .ok (.iload_n 1, 1) := dk_27 (dk_at dksJ26_putChar_1 9 rfl rfl)
theorem dJ26_putChar_34 : decode cJ26_putChar 34 = .ok (.iinc 1 1, 3) := dk_132 1 1 (dk_at dksJ26_putChar_1 10 rfl rfl)
theorem dJ26_putChar_37 : decode cJ26_putChar 37 = .ok (.iload_n 2, 1) := dk_28 (dk_at dksJ26_putChar_1 13 rfl rfl)
theorem dJ26_putChar_38 : decode cJ26_putChar 38 = .ok (.getstatic 59, 3) := dk_178 0 59 (dk_at dksJ26_putChar_1 14 rfl rfl)
theorem dJ26_putChar_41 : decode cJ26_putChar 41 = .ok (.ishr, 1) := dk_122 (dk_at dksJ26_putChar_1 17 rfl rfl)
theorem dJ26_putChar_42 : decode cJ26_putChar 42 = .ok (.i2b, 1) := dk_145 (dk_at dksJ26_putChar_1 18 rfl rfl)
theorem dJ26_putChar_43 : decode cJ26_putChar 43 = .ok (.bastore, 1) := dk_84 (dk_at dksJ26_putChar_1 19 rfl rfl)
theorem dJ26_putChar_44 : decode cJ26_putChar 44 = .ok (.aload_n 0, 1) := dk_42 (dk_at dksJ26_putChar_1 20 rfl rfl)
theorem dJ26_putChar_45 : decode cJ26_putChar 45 = .ok (.iload_n 1, 1) := dk_27 (dk_at dksJ26_putChar_1 21 rfl rfl)
theorem dJ26_putChar_46 : decode cJ26_putChar 46 = .ok (.iload_n 2, 1) := dk_28 (dk_at dksJ26_putChar_1 22 rfl rfl)
theorem dJ26_putChar_47 : decode cJ26_putChar 47 = .ok (.getstatic 63, 3) := dk_178 0 63 (dk_at dksJ26_putChar_2 0 rfl rfl)
theorem dJ26_putChar_50 : decode cJ26_putChar 50 = .ok (.ishr, 1) := dk_122 (dk_at dksJ26_putChar_2 3 rfl rfl)
theorem dJ26_putChar_51 : decode cJ26_putChar 51 = .ok (.i2b, 1) := dk_145 (dk_at dksJ26_putChar_2 4 rfl rfl)
theorem dJ26_putChar_52 : decode cJ26_putChar 52 = .ok (.bastore, 1) := dk_84 (dk_at dksJ26_putChar_2 5 rfl rfl)
theorem dJ26_putChar_53 : decode cJ26_putChar 53 = .ok (.return_, 1) := dk_177 (dk_at dksJ26_putChar_2 6 rfl rfl)
def dkwJ26_inflate_1 : List UInt8 := [132, 1, 1, 51, 17, 0, 255, 126, 184, 0, 111, 132, 5, 1, 167, 255, 228, 177]
abbrev dktJ26_inflate_1 : List UInt8 := dkwJ26_inflate_1 ++ []
def dkwJ26_inflate_0 : List UInt8 := [29, 21, 4, 44, 184, 0, 173, 3, 54, 5, 21, 5, 21, 4, 162, 0, 27, 44, 29, 132, 3, 1, 42, 27]
abbrev dktJ26_inflate_0 : List UInt8 := dkwJ26_inflate_0 ++ dktJ26_inflate_1
theorem dksJ26_inflate_0 : cJ26_inflate.data.toList.drop 0 = dktJ26_inflate_0 := by decide +kernel
theorem dksJ26_inflate_1 : cJ26_inflate.data.toList.drop 24 = dktJ26_inflate_1 := dk_seg dksJ26_inflate_0 24 rfl rfl
theorem dJ26_inflate_0 : decode cJ26_inflate 0 = .ok (.iload_n 3, 1) := dk_29 (dk_at dksJ26_inflate_0 0 rfl rfl)
theorem dJ26_inflate_1 : decode cJ26_inflate 1 = .ok (.iload 4, 2) := dk_21 4 (dk_at dksJ26_inflate_0 1 rfl rfl)
theorem dJ26_inflate_3 : decode cJ26_inflate 3 = .ok (.aload_n 2, 1) := dk_44 (dk_at dksJ26_inflate_0 3 rfl rfl)
theorem dJ26_inflate_4 : decode cJ26_inflate 4 = .ok (.invokestatic 173, 3) := dk_184 0 173 (dk_at dksJ26_inflate_0 4 rfl rfl)
theorem dJ26_inflate_7 : decode cJ26_inflate 7 = .ok (.iconst 0, 1) := dk_3 (dk_at dksJ26_inflate_0 7 rfl rfl)
theorem dJ26_inflate_8 : decode cJ26_inflate 8 = .ok (.istore 5, 2) := dk_54 5 (dk_at dksJ26_inflate_0 8 rfl rfl)
theorem dJ26_inflate_10 : decode cJ26_inflate 10 = .ok (.iload 5, 2) := dk_21 5 (dk_at dksJ26_inflate_0 10 rfl rfl)
theorem dJ26_inflate_12 : decode cJ26_inflate 12 = .ok (.iload 4, 2) := dk_21 4 (dk_at dksJ26_inflate_0 12 rfl rfl)
theorem dJ26_inflate_14 : decode cJ26_inflate 14 = .ok (.if_icmp .ge 27, 3) := dk_162 0 27 (dk_at dksJ26_inflate_0 14 rfl rfl)
theorem dJ26_inflate_17 : decode cJ26_inflate 17 = .ok (.aload_n 2, 1) := dk_44 (dk_at dksJ26_inflate_0 17 rfl rfl)
theorem dJ26_inflate_18 : decode cJ26_inflate 18 = .ok (.iload_n 3, 1) := dk_29 (dk_at dksJ26_inflate_0 18 rfl rfl)
theorem dJ26_inflate_19 : decode cJ26_inflate 19 = .ok (.iinc 3 1, 3) := dk_132 3 1 (dk_at dksJ26_inflate_0 19 rfl rfl)
theorem dJ26_inflate_22 : decode cJ26_inflate 22 = .ok (.aload_n 0, 1) := dk_42 (dk_at dksJ26_inflate_0 22 rfl rfl)
theorem dJ26_inflate_23 : decode cJ26_inflate 23 = .ok (.iload_n 1, 1) := dk_27 (dk_at dksJ26_inflate_0 23 rfl rfl)
theorem dJ26_inflate_24 : decode cJ26_inflate 24 = .ok (.iinc 1 1, 3) := dk_132 1 1 (dk_at dksJ26_inflate_1 0 rfl rfl)
theorem dJ26_inflate_27 : decode cJ26_inflate 27 = .ok (.baload, 1) := dk_51 (dk_at dksJ26_inflate_1 3 rfl rfl)
theorem dJ26_inflate_28 : decode cJ26_inflate 28 = .ok (.sipush 255, 3) := dk_17 0 255 (dk_at dksJ26_inflate_1 4 rfl rfl)
theorem dJ26_inflate_31 : decode cJ26_inflate 31 = .ok (.iand, 1) := dk_126 (dk_at dksJ26_inflate_1 7 rfl rfl)
theorem dJ26_inflate_32 : decode cJ26_inflate 32 = .ok (.invokestatic 111, 3) := dk_184 0 111 (dk_at dksJ26_inflate_1 8 rfl rfl)
theorem dJ26_inflate_35 : decode cJ26_inflate 35 = .ok (.iinc 5 1, 3) := dk_132 5 1 (dk_at dksJ26_inflate_1 11 rfl rfl)
theorem dJ26_inflate_38 : decode cJ26_inflate 38 = .ok (.goto (-28), 3) := dk_167 255 228 (dk_at dksJ26_inflate_1 14 rfl rfl)
theorem dJ26_inflate_41 : decode cJ26_inflate 41 = .ok (.return_, 1) := dk_177 (dk_at dksJ26_inflate_1 17 rfl rfl)
def dkwJ26_checkBoundsOffCount_0 : List UInt8 := [26, 27, 44, 184, 0, 48, 184, 1, 163, 87, 177]
abbrev dktJ26_checkBoundsOffCount_0 : List UInt8 := dkwJ26_checkBoundsOffCount_0 ++ []
theorem dksJ26_checkBoundsOffCount_0 : cJ26_checkBoundsOffCount.data.toList.drop 0 = dktJ26_checkBoundsOffCount_0 := by decide +kernel
theorem dJ26_checkBoundsOffCount_0 : decode cJ26_checkBoundsOffCount 0 = .ok (.iload_n 0, 1) := dk_26 (dk_at dksJ26_checkBoundsOffCount_0 0 rfl rfl)
theorem dJ26_checkBoundsOffCount_1 : decode cJ26_checkBoundsOffCount 1 = .ok (.iload_n 1, 1) := dk_27 (dk_at dksJ26_checkBoundsOffCount_0 1 rfl rfl)
theorem dJ26_checkBoundsOffCount_2 : decode cJ26_checkBoundsOffCount 2 = .ok (.aload_n 2, 1) := dk_44 (dk_at dksJ26_checkBoundsOffCount_0 2 rfl rfl)
theorem dJ26_checkBoundsOffCount_3 : decode cJ26_checkBoundsOffCount 3 = .ok (.invokestatic 48, 3) := dk_184 0 48 (dk_at dksJ26_checkBoundsOffCount_0 3 rfl rfl)
theorem dJ26_checkBoundsOffCount_6 : decode cJ26_checkBoundsOffCount 6 = .ok (.invokestatic 419, 3) := dk_184 1 163 (dk_at dksJ26_checkBoundsOffCount_0 6 rfl rfl)
theorem dJ26_checkBoundsOffCount_9 : decode cJ26_checkBoundsOffCount 9 = .ok (.pop, 1) := dk_87 (dk_at dksJ26_checkBoundsOffCount_0 9 rfl rfl)
theorem dJ26_checkBoundsOffCount_10 : decode cJ26_checkBoundsOffCount 10 = .ok (.return_, 1) := dk_177 (dk_at dksJ26_checkBoundsOffCount_0 10 rfl rfl)
def dkwJ26_compress_2 : List UInt8 := [25, 5, 3, 45, 3, 28, 184, 0, 123, 28, 159, 0, 6, 25, 5, 176, 45, 176]
abbrev dktJ26_compress_2 : List UInt8 := dkwJ26_compress_2 ++ []
def dkwJ26_compress_1 : List UInt8 := [27, 28, 96, 184, 0, 11, 184, 0, 126, 58, 5, 25, 5, 21, 4, 184, 0, 71, 17, 0, 255, 163, 0, 16]
abbrev dktJ26_compress_1 : List UInt8 := dkwJ26_compress_1 ++ dktJ26_compress_2
def dkwJ26_compress_0 : List UInt8 := [28, 188, 8, 78, 42, 27, 45, 3, 28, 184, 0, 123, 54, 4, 21, 4, 28, 159, 0, 47, 42, 27, 4, 120]
abbrev dktJ26_compress_0 : List UInt8 := dkwJ26_compress_0 ++ dktJ26_compress_1
theorem dksJ26_compress_0 : cJ26_compress.data.toList.drop 0 = dktJ26_compress_0 := by decide +kernel
theorem dksJ26_compress_1 : cJ26_compress.data.toList.drop 24 = dktJ26_compress_1 := dk_seg dksJ26_compress_0 24 rfl rfl
theorem dksJ26_compress_2 : cJ26_compress.data.toList.drop 48 = dktJ26_compress_2 := dk_seg dksJ26_compress_1 24 rfl rfl
theorem dJ26_compress_0 : decode cJ26_compress 0 = .ok (.iload_n 2, 1) := dk_28 (dk_at dksJ26_compress_0 0 rfl rfl)
theorem dJ26_compress_1 : decode cJ26_compress 1 = .ok (.newarray .byte, 2) := dk_188_8 (dk_at dksJ26_compress_0 1 rfl rfl)
theorem dJ26_compress_3 : decode cJ26_compress 3 = .ok (.astore_n 3, 1) := dk_78 (dk_at dksJ26_compress_0 3 rfl rfl)
theorem dJ26_compress_4 : decode cJ26_compress 4 = .ok (.aload_n 0, 1) := dk_42 (dk_at dksJ26_compress_0 4 rfl rfl)
theorem dJ26_compress_5 : decode cJ26_compress 5 = .ok (.iload_n 1, 1) := dk_27 (dk_at dksJ26_compress_0 5 rfl rfl)
theorem dJ26_compress_6 : decode cJ26_compress 6 = .ok (.aload_n 3, 1) := dk_45 (dk_at dksJ26_compress_0 6 rfl rfl)
theorem dJ26_compress_7 : decode cJ26_compress 7 = .ok (.iconst 0, 1) := dk_3 (dk_at dksJ26_compress_0 7 rfl rfl)
theorem dJ26_compress_8 : decode cJ26_compress 8 = .ok (.iload_n 2, 1) := dk_28 (dk_at dksJ26_compress_0 8 rfl rfl)
theorem dJ26_compress_9 : decode cJ26_compress 9 = .ok (.invokestatic 123, 3) := dk_184 0 123 (dk_at dksJ26_compress_0 9 rfl rfl)
theorem dJ26_compress_12 : decode cJ26_compress 12 = .ok (.istore 4, 2) := dk_54 4 (dk_at dksJ26_compress_0 12 rfl rfl)
theorem dJ26_compress_14 : decode cJ26_compress 14 = .ok (.iload 4, 2) := dk_21 4 (dk_at dksJ26_compress_0 14 rfl rfl)
theorem dJ26_compress_16 : decode cJ26_compress 16 = .ok (.iload_n 2, 1) := dk_28 (dk_at dksJ26_compress_0 16 rfl rfl)
theorem dJ26_compress_17 : decode cJ26_compress 17 = .ok (.if_icmp .eq 47, 3) := dk_159 0 47 (dk_at dksJ26_compress_0 17 rfl rfl)
theorem dJ26_compress_20 : decode cJ26_compress 20 = .ok (.aload_n 0, 1) := dk_42 (dk_at dksJ26_compress_0 20 rfl rfl)
theorem dJ26_compress_21 : decode cJ26_compress 21 = .ok (.iload_n 1, 1) := dk_27 (dk_at dksJ26_compress_0 21 rfl rfl)
theorem dJ26_compress_22 : decode cJ26_compress 22 = .ok (.iconst 1, 1) := dk_4 (dk_at dksJ26_compress_0 22 rfl rfl)
theorem dJ26_compress_23 : decode cJ26_compress 23 = .ok (.ishl, 1) := dk_120 (dk_at dksJ26_compress_0 23 rfl rfl)
theorem dJ26_compress_24 : decode cJ26_compress 24 = .ok (.iload_n 1, 1) := dk_27 (dk_at dksJ26_compress_1 0 rfl rfl)
theorem dJ26_compress_25 : decode cJ26_compress 25 = .ok (.iload_n 2, 1) := dk_28 (dk_at dksJ26_compress_1 1 rfl rfl)
theorem dJ26_compress_26 : decode cJ26_compress 26 = .ok (.iadd, 1) := dk_96 (dk_at dksJ26_compress_1 2 rfl rfl)
theorem dJ26_compress_27 : decode cJ26_compress 27 = .ok (.invokestatic 11, 3) := dk_184 0 11 (dk_at dksJ26_compress_1 3 rfl rfl)
theorem dJ26_compress_30 : decode cJ26_compress 30 = .ok (.invokestatic 126, 3) := dk_184 0 126 (dk_at dksJ26_compress_1 6 rfl rfl)
theorem dJ26_compress_33 : decode cJ26_compress 33 = .ok (.astore 5, 2) := dk_58 5 (dk_at dksJ26_compress_1 9 rfl rfl)
theorem dJ26_compress_35 : decode cJ26_compress 35 = .ok (.aload 5, 2) := dk_25 5 (dk_at dksJ26_compress_1 11 rfl rfl)
theorem dJ26_compress_37 : decode cJ26_compress 37 = .ok (.iload 4, 2) := dk_21 4 (dk_at dksJ26_compress_1 13 rfl rfl)
theorem dJ26_compress_39 : decode cJ26_compress 39 = .ok (.invokestatic 71, 3) := dk_184 0 71 (dk_at dksJ26_compress_1 15 rfl rfl)
theorem dJ26_compress_42 : decode cJ26_compress 42 = .ok (.sipush 255, 3) := dk_17 0 255 (dk_at dksJ26_compress_1 18 rfl rfl)
theorem dJ26_compress_45 : decode cJ26_compress 45 = .ok (.if_icmp .gt 16, 3) := dk_163 0 16 (dk_at dksJ26_compress_1 21 rfl rfl)
theorem dJ26_compress_48 : decode cJ26_compress 48 = .ok (.aload 5, 2) := dk_25 5 (dk_at dksJ26_compress_2 0 rfl rfl)
theorem dJ26_compress_50 : decode cJ26_compress 50 = .ok (.iconst 0, 1) := dk_3 (dk_at dksJ26_compress_2 2 rfl rfl)
theorem dJ26_compress_51 : decode cJ26_compress 51 = .ok (.aload_n 3, 1) := dk_45 (dk_at dksJ26_compress_2 3 rfl rfl)
theorem dJ26_compress_52 : decode cJ26_compress 52 = .ok (.iconst 0, 1) := dk_3 (dk_at dksJ26_compress_2 4 rfl rfl)
theorem dJ26_compress_53 : decode cJ26_compress 53 = .ok (.iload_n 2, 1) := dk_28 (dk_at dksJ26_compress_2 5 rfl rfl)
theorem dJ26_compress_54 : decode cJ26_compress 54 = .ok (.invokestatic 123, 3) := dk_184 0 123 (dk_at dksJ26_compress_2 6 rfl rfl)
theorem dJ26_compress_57 : decode cJ26_compress 57 = .ok (.iload_n 2, 1) := dk_28 (dk_at dksJ26_compress_2 9 rfl rfl)
theorem dJ26_compress_58 : decode cJ26_compress 58 = .ok (.if_icmp .eq 6, 3) := dk_159 0 6 (dk_at dksJ26_compress_2 10 rfl rfl)
theorem dJ26_compress_61 : decode cJ26_compress 61 = .ok (.aload 5, 2) := dk_25 5 (dk_at dksJ26_compress_2 13 rfl rfl)
theorem dJ26_compress_63 : decode cJ26_compress 63 = .ok (.areturn, 1) := dk_176 (dk_at dksJ26_compress_2 15 rfl rfl)
theorem dJ26_compress_64 : decode cJ26_compress 64 = .ok (.aload_n 3, 1) := dk_45 (dk_at dksJ26_compress_2 16 rfl rfl)
theorem dJ26_compress_65 : decode cJ26_compress 65 = .ok (.areturn, 1) := dk_176 (dk_at dksJ26_compress_2 17 rfl rfl)
def dkwJ26_compress_2_2 : List UInt8 := [132, 5, 1, 167, 255, 216, 21, 4, 172]
abbrev dktJ26_compress_2_2 : List UInt8 := dkwJ26_compress_2_2 ++ []
def dkwJ26_compress_2_1 : List UInt8 := [21, 6, 17, 0, 255, 164, 0, 6, 21, 5, 172, 44, 29, 21, 6, 145, 84, 132, 1, 1, 132, 3, 1]
abbrev dktJ26_compress_2_1 : List UInt8 := dkwJ26_compress_2_1 ++ dktJ26_compress_2_2
def dkwJ26_compress_2_0 : List UInt8 := [27, 21, 4, 42, 184, 0, 173, 3, 54, 5, 21, 5, 21, 4, 162, 0, 39, 42, 27, 184, 0, 71, 54, 6]
abbrev dktJ26_compress_2_0 : List UInt8 := dkwJ26_compress_2_0 ++ dktJ26_compress_2_1
theorem dksJ26_compress_2_0 : cJ26_compress_2.data.toList.drop 0 = dktJ26_compress_2_0 := by decide +kernel
theorem dksJ26_compress_2_1 : cJ26_compress_2.data.toList.drop 24 = dktJ26_compress_2_1 := dk_seg dksJ26_compress_2_0 24 rfl rfl
theorem dksJ26_compress_2_2 : cJ26_compress_2.data.toList.drop 47 = dktJ26_compress_2_2 := dk_seg dksJ26_compress_2_1 23 rfl rfl
theorem dJ26_compress_2_0 : decode cJ26_compress_2 0 = .ok (.iload_n 1, 1) := dk_27 (dk_at dksJ26_compress_2_0 0 rfl rfl)
theorem dJ26_compress_2_1 : decode cJ26_compress_2 1 = .ok (.iload 4, 2) := dk_21 4 (dk_at dksJ26_compress_2_0 1 rfl rfl)
theorem dJ26_compress_2_3 : decode cJ26_compress_2 3 = .ok (.aload_n 0, 1) := dk_42 (dk_at dksJ26_compress_2_0 3 rfl rfl)
theorem dJ26_compress_2_4 : decode cJ26_compress_2 4 = .ok (.invokestatic 173, 3) := dk_184 0 173 (dk_at dksJ26_compress_2_0 4 rfl rfl)
theorem dJ26_compress_2_7 : decode cJ26_compress_2 7 = .ok (.iconst 0, 1) := dk_3 (dk_at dksJ26_compress_2_0 7 rfl rfl)
theorem dJ26_compress_2_8 : decode cJ26_compress_2 8 = .ok (.istore 5, 2) := dk_54 5 (dk_at dksJ26_compress_2_0 8 rfl rfl)
theorem dJ26_compress_2_10 : decode cJ26_compress_2 10 = .ok (.iload 5, 2) := dk_21 5 (dk_at dksJ26_compress_2_0 10 rfl rfl)
theorem dJ26_compress_2_12 : decode cJ26_compress_2 12 = .ok (.iload 4, 2) := dk_21 4 (dk_at dksJ26_compress_2_0 12 rfl rfl)
theorem dJ26_compress_2_14 : decode cJ26_compress_2 14 = .ok (.if_icmp .ge 39, 3) := dk_162 0 39 (dk_at dksJ26_compress_2_0 14 rfl rfl)
theorem dJ26_compress_2_17 : decode cJ26_compress_2 17 = .ok (.aload_n 0, 1) := dk_42 (dk_at dksJ26_compress_2_0 17 rfl rfl)
theorem dJ26_compress_2_18 : decode cJ26_compress_2 18 = .ok (.iload_n 1, 1) := dk_27 (dk_at dksJ26_compress_2_0 18 rfl rfl)
theorem dJ26_compress_2_19 : decode cJ26_compress_2 19 = .ok (.invokestatic 71, 3) := dk_184 0 71 (dk_at dksJ26_compress_2_0 19 rfl rfl)
theorem dJ26_compress_2_22 : decode cJ26_compress_2 22 = .ok (.istore 6, 2) := dk_54 6 (dk_at dksJ26_compress_2_0 22 rfl rfl)
theorem dJ26_compress_2_24 : decode cJ26_compress_2 24 = .ok (.iload 6, 2) := dk_21 6 (dk_at dksJ26_compress_2_1 0 rfl rfl)
theorem dJ26_compress_2_26 : decode cJ26_compress_2 26 = .ok (.sipush 255, 3) := dk_17 0 255 (dk_at dksJ26_compress_2_1 2 rfl rfl)
theorem dJ26_compress_2_29 : decode cJ26_compress_2 29 = .ok (.if_icmp .le 6, 3) := dk_164 0 6 (dk_at dksJ26_compress_2_1 5 rfl rfl)
theorem dJ26_compress_2_32 : decode cJ26_compress_2 32 = .ok (.iload 5, 2) := dk_21 5 (dk_at dksJ26_compress_2_1 8 rfl rfl)
theorem dJ26_compress_2_34 : decode cJ26_compress_2 34 = .ok (.ireturn, 1) := dk_172 (dk_at dksJ26_compress_2_1 10 rfl rfl)
theorem dJ26_compress_2_35 : decode cJ26_compress_2 35 = .ok (.aload_n 2, 1) := dk_44 (dk_at dksJ26_compress_2_1 11 rfl rfl)
theorem dJ26_compress_2_36 : decode cJ26_compress_2 36 = .ok (.iload_n 3, 1) := dk_29 (dk_at dksJ26_compress_2_1 12 rfl rfl)
theorem dJ26_compress_2_37 : decode cJ26_compress_2 37 = .ok (.iload 6, 2) := dk_21 6 (dk_at dksJ26_compress_2_1 13 rfl rfl)
theorem dJ26_compress_2_39 : decode cJ26_compress_2 39 = .ok (.i2b, 1) := dk_145 (dk_at dksJ26_compress_2_1 15 rfl rfl)
theorem dJ26_compress_2_40 : decode cJ26_compress_2 40 = .ok (.bastore, 1) := dk_84 (dk_at dksJ26_compress_2_1 16 rfl rfl)
theorem dJ26_compress_2_41 : decode cJ26_compress_2 41 = .ok (.iinc 1 1, 3) := dk_132 1 1 (dk_at dksJ26_compress_2_1 17 rfl rfl)
theorem dJ26_compress_2_44 : decode cJ26_compress_2 44 = .ok (.iinc 3 1, 3) := dk_132 3 1 (dk_at dksJ26_compress_2_1 20 rfl rfl)
theorem dJ26_compress_2_47 : decode cJ26_compress_2 47 = .ok (.iinc 5 1, 3) := dk_132 5 1 (dk_at dksJ26_compress_2_2 0 rfl rfl)
theorem dJ26_compress_2_50 : decode cJ26_compress_2 50 = .ok (.goto (-40), 3) := dk_167 255 216 (dk_at dksJ26_compress_2_2 3 rfl rfl)
theorem dJ26_compress_2_53 : decode cJ26_compress_2 53 = .ok (.iload 4, 2) := dk_21 4 (dk_at dksJ26_compress_2_2 6 rfl rfl)
theorem dJ26_compress_2_55 : decode cJ26_compress_2 55 = .ok (.ireturn, 1) := dk_172 (dk_at dksJ26_compress_2_2 8 rfl rfl)
def dkwJ26_getChar_2 : List UInt8 := [51, 17, 0, 255, 126, 178, 0, 63, 120, 128, 146, 172]
abbrev dktJ26_getChar_2 : List UInt8 := dkwJ26_getChar_2 ++ []
def dkwJ26_getChar_1 : List UInt8 := [183, 0, 56, 191, 27, 4, 120, 60, 42, 27, 132, 1, 1, 51, 17, 0, 255, 126, 178, 0, 59, 120, 42, 27]
abbrev dktJ26_getChar_1 : List UInt8 := dkwJ26_getChar_1 ++ dktJ26_getChar_2
def dkwJ26_getChar_0 : List UInt8 := [178, 0, 44, 154, 0, 25, 27, 155, 0, 11, 27, 42, 184, 0, 48, 161, 0, 13, 187, 0, 52, 89, 18, 54]
abbrev dktJ26_getChar_0 : List UInt8 := dkwJ26_getChar_0 ++ dktJ26_getChar_1
theorem dksJ26_getChar_0 : cJ26_getChar.data.toList.drop 0 = dktJ26_getChar_0 := by decide +kernel
theorem dksJ26_getChar_1 : cJ26_getChar.data.toList.drop 24 = dktJ26_getChar_1 := dk_seg dksJ26_getChar_0 24 rfl rfl
theorem dksJ26_getChar_2 : cJ26_getChar.data.toList.drop 48 = dktJ26_getChar_2 := dk_seg dksJ26_getChar_1 24 rfl rfl
theorem dJ26_getChar_0 : decode cJ26_getChar 0 = .ok (.getstatic 44, 3) := dk_178 0 44 (dk_at dksJ26_getChar_0 0 rfl rfl)
theorem dJ26_getChar_3 : decode cJ26_getChar 3 = .ok (.ifCond .ne 25, 3) := dk_154 0 25 (dk_at dksJ26_getChar_0 3 rfl rfl)
theorem dJ26_getChar_6 : decode cJ26_getChar 6 = .ok (.iload_n 1, 1) := dk_27 (dk_at dksJ26_getChar_0 6 rfl rfl)
theorem dJ26_getChar_7 : decode cJ26_getChar 7 = .ok (.ifCond .lt 11, 3) := dk_155 0 11 (dk_at dksJ26_getChar_0 7 rfl rfl)
theorem dJ26_getChar_10 : decode cJ26_getChar 10 = .ok (.iload_n 1, 1) := dk_27 (dk_at dksJ26_getChar_0 10 rfl rfl)
theorem dJ26_getChar_11 : decode cJ26_getChar 11 = .ok (.aload_n 0, 1) := dk_42 (dk_at dksJ26_getChar_0 11 rfl rfl)
theorem dJ26_getChar_12 : decode cJ26_getChar 12 = .ok (.invokestatic 48, 3) := dk_184 0 48 (dk_at dksJ26_getChar_0 12 rfl rfl)
theorem dJ26_getChar_15 : decode cJ26_getChar 15 = .ok (.if_icmp .lt 13, 3) := dk_161 0 13 (dk_at dksJ26_getChar_0 15 rfl rfl)
theorem dJ26_getChar_18 : decode cJ26_getChar 18 = .ok (.new 52, 3) := dk_187 0 52 (dk_at dksJ26_getChar_0 18 rfl rfl)
theorem dJ26_getChar_21 : decode cJ26_getChar 21 = .ok (.dup, 1) := dk_89 (dk_at dksJ26_getChar_0 21 rfl rfl)
theorem dJ26_getChar_22 : decode cJ26_getChar 22 = .ok (.ldc 54, 2) := dk_18 54 (dk_at dksJ26_getChar_0 22 rfl rfl)
theorem dJ26_getChar_24 : decode cJ26_getChar 24 = .ok (.invokespecial 56, 3) := dk_183 0 56 (dk_at dksJ26_getChar_1 0 rfl rfl)
theorem dJ26_getChar_27 : decode cJ26_getChar 27 = .ok (.athrow, 1) := dk_191 (dk_at dksJ26_getChar_1 3 rfl rfl)
theorem dJ26_getChar_28 : decode cJ26_getChar 28 = .ok (.iload_n 1, 1) := dk_27 (dk_at dksJ26_getChar_1 4 rfl rfl)
theorem dJ26_getChar_29 : decode cJ26_getChar 29 = .ok (.iconst 1, 1) := dk_4 (dk_at dksJ26_getChar_1 5 rfl rfl)
theorem dJ26_getChar_30 : decode cJ26_getChar 30 = .ok (.ishl, 1) := dk_120 (dk_at dksJ26_getChar_1 6 rfl rfl)
theorem dJ26_getChar_31 : decode cJ26_getChar 31 = .ok (.istore_n 1, 1) := dk_60 (dk_at dksJ26_getChar_1 7 rfl rfl)
theorem dJ26_getChar_32 : decode cJ26_getChar 32 = .ok (.aload_n 0, 1) := dk_42 (dk_at dksJ26_getChar_1 8 rfl rfl)
theorem dJ26_getChar_33 : decode cJ26_getChar 33 = .ok (.iload_n 1, 1) := dk_27 (dk_at dksJ26_getChar_1 9 rfl rfl)
theorem dJ26_getChar_34 : decode cJ26_getChar 34 = .ok (.iinc 1 1, 3) := dk_132 1 1 (dk_at dksJ26_getChar_1 10 rfl rfl)
theorem dJ26_getChar_37 : decode cJ26_getChar 37 = .ok (.baload, 1) := dk_51 (dk_at dksJ26_getChar_1 13 rfl rfl)
theorem dJ26_getChar_38 : decode cJ26_getChar 38 = .ok (.sipush 255, 3) := dk_17 0 255 (dk_at dksJ26_getChar_1 14 rfl rfl)
theorem dJ26_getChar_41 : decode cJ26_getChar 41 = .ok (.iand, 1) := dk_126 (dk_at dksJ26_getChar_1 17 rfl rfl)
theorem dJ26_getChar_42 : decode cJ26_getChar 42 = .ok (.getstatic 59, 3) := dk_178 0 59 (dk_at dksJ26_getChar_1 18 rfl rfl)
theorem dJ26_getChar_45 : decode cJ26_getChar 45 = .ok (.ishl, 1) := dk_120 (dk_at dksJ26_getChar_1 21 rfl rfl)
theorem dJ26_getChar_46 : decode cJ26_getChar 46 = .ok (.aload_n 0, 1) := dk_42 (dk_at dksJ26_getChar_1 22 rfl rfl)
theorem dJ26_getChar_47 : decode cJ26_getChar 47 = .ok (.iload_n 1, 1) := dk_27 (dk_at dksJ26_getChar_1 23 rfl rfl)
theorem dJ26_getChar_48 : decode cJ26_getChar 48 = .ok (.baload, 1) := dk_51 (dk_at dksJ26_getChar_2 0 rfl rfl)
theorem dJ26_getChar_49 : decode cJ26_getChar 49 = .ok (.sipush 255, 3) := dk_17 0 255 (dk_at dksJ26_getChar_2 1 rfl rfl)
theorem dJ26_getChar_52 : decode cJ26_getChar 52 = .ok (.iand, 1) := dk_126 (dk_at dksJ26_getChar_2 4 rfl rfl)
theorem dJ26_getChar_53 : decode cJ26_getChar 53 = .ok (.getstatic 63, 3) := dk_178 0 63 (dk_at dksJ26_getChar_2 5 rfl rfl)
theorem dJ26_getChar_56 : decode cJ26_getChar 56 = .ok (.ishl, 1) := dk_120 (dk_at dksJ26_getChar_2 8 rfl rfl)
theorem dJ26_getChar_57 : decode cJ26_getChar 57 = .ok (.ior, 1) := dk_128 (dk_at dksJ26_getChar_2 9 rfl rfl)
theorem dJ26_getChar_58 : decode cJ26_getChar 58 = .ok (.i2c, 1) := dk_146 (dk_at dksJ26_getChar_2 10 rfl rfl)
theorem dJ26_getChar_59 : decode cJ26_getChar 59 = .ok (.ireturn, 1) := dk_172 (dk_at dksJ26_getChar_2 11 rfl rfl)
def dkwJ26_coderFromArrayLen_0 : List UInt8 := [27, 42, 190, 100, 16, 31, 124, 145, 172]
abbrev dktJ26_coderFromArrayLen_0 : List UInt8 := dkwJ26_coderFromArrayLen_0 ++ []
theorem dksJ26_coderFromArrayLen_0 : cJ26_coderFromArrayLen.data.toList.drop 0 = dktJ26_coderFromArrayLen_0 := by decide +kernel
theorem dJ26_coderFromArrayLen_0 : decode cJ26_coderFromArrayLen 0 = .ok (.iload_n 1, 1) := dk_27 (dk_at dksJ26_coderFromArrayLen_0 0 rfl rfl)
theorem dJ26_coderFromArrayLen_1 : decode cJ26_coderFromArrayLen 1 = .ok (.aload_n 0, 1) := dk_42 (dk_at dksJ26_coderFromArrayLen_0 1 rfl rfl)
theorem dJ26_coderFromArrayLen_2 : decode cJ26_coderFromArrayLen 2 = .ok (.arraylength, 1) := dk_190 (dk_at dksJ26_coderFromArrayLen_0 2 rfl rfl)
theorem dJ26_coderFromArrayLen_3 : decode cJ26_coderFromArrayLen 3 = .ok (.isub, 1) := dk_100 (dk_at dksJ26_coderFromArrayLen_0 3 rfl rfl)
theorem dJ26_coderFromArrayLen_4 : decode cJ26_coderFromArrayLen 4 = .ok (.bipush 31, 2) := dk_16 31 (dk_at dksJ26_coderFromArrayLen_0 4 rfl rfl)
theorem dJ26_coderFromArrayLen_6 : decode cJ26_coderFromArrayLen 6 = .ok (.iushr, 1) := dk_124 (dk_at dksJ26_coderFromArrayLen_0 6 rfl rfl)
theorem dJ26_coderFromArrayLen_7 : decode cJ26_coderFromArrayLen 7 = .ok (.i2b, 1) := dk_145 (dk_at dksJ26_coderFromArrayLen_0 7 rfl rfl)
theorem dJ26_coderFromArrayLen_8 : decode cJ26_coderFromArrayLen 8 = .ok (.ireturn, 1) := dk_172 (dk_at dksJ26_coderFromArrayLen_0 8 rfl rfl)
def dkwJ26_indexOf_1 : List UInt8 := [18, 227, 162, 0, 11, 42, 27, 28, 29, 184, 0, 228, 172, 42, 27, 28, 29, 184, 0, 232, 172]
abbrev dktJ26_indexOf_1 : List UInt8 := dkwJ26_indexOf_1 ++ []
def dkwJ26_indexOf_0 : List UInt8 := [28, 3, 184, 0, 224, 61, 29, 42, 190, 4, 122, 184, 0, 183, 62, 28, 29, 161, 0, 5, 2, 172, 27]
abbrev dktJ26_indexOf_0 : List UInt8 := dkwJ26_indexOf_0 ++ dktJ26_indexOf_1
theorem dksJ26_indexOf_0 : cJ26_indexOf.data.toList.drop 0 = dktJ26_indexOf_0 := by decide +kernel
theorem dksJ26_indexOf_1 : cJ26_indexOf.data.toList.drop 23 = dktJ26_indexOf_1 := dk_seg dksJ26_indexOf_0 23 rfl rfl
theorem dJ26_indexOf_0 : decode cJ26_indexOf 0 = .ok (.iload_n 2, 1) := dk_28 (dk_at dksJ26_indexOf_0 0 rfl rfl)
theorem dJ26_indexOf_1 : decode cJ26_indexOf 1 = .ok (.iconst 0, 1) := dk_3 (dk_at dksJ26_indexOf_0 1 rfl rfl)
theorem dJ26_indexOf_2 : decode cJ26_indexOf 2 = .ok (.invokestatic 224, 3) := dk_184 0 224 (dk_at dksJ26_indexOf_0 2 rfl rfl)
theorem dJ26_indexOf_5 : decode cJ26_indexOf 5 = .ok (.istore_n 2, 1) := dk_61 (dk_at dksJ26_indexOf_0 5 rfl rfl)
theorem dJ26_indexOf_6 : decode cJ26_indexOf 6 = .ok (.iload_n 3, 1) := dk_29 (dk_at dksJ26_indexOf_0 6 rfl rfl)
theorem dJ26_indexOf_7 : decode cJ26_indexOf 7 = .ok (.aload_n 0, 1) := dk_42 (dk_at dksJ26_indexOf_0 7 rfl rfl)
theorem dJ26_indexOf_8 : decode cJ26_indexOf 8 = .ok (.arraylength, 1) := dk_190 (dk_at dksJ26_indexOf_0 8 rfl rfl)
theorem dJ26_indexOf_9 : decode cJ26_indexOf 9 = .ok (.iconst 1, 1) := dk_4 (dk_at dksJ26_indexOf_0 9 rfl rfl)
theorem dJ26_indexOf_10 : decode cJ26_indexOf 10 = .ok (.ishr, 1) := dk_122 (dk_at dksJ26_indexOf_0 10 rfl rfl)
theorem dJ26_indexOf_11 : decode cJ26_indexOf 11 = .ok (.invokestatic 183, 3) := dk_184 0 183 (dk_at dksJ26_indexOf_0 11 rfl rfl)
theorem dJ26_indexOf_14 : decode cJ26_indexOf 14 = .ok (.istore_n 3, 1) := dk_62 (dk_at dksJ26_indexOf_0 14 rfl rfl)
theorem dJ26_indexOf_15 : decode cJ26_indexOf 15 = .ok (.iload_n 2, 1) := dk_28 (dk_at dksJ26_indexOf_0 15 rfl rfl)
theorem dJ26_indexOf_16 : decode cJ26_indexOf 16 = .ok (.iload_n 3, 1) := dk_29 (dk_at dksJ26_indexOf_0 16 rfl rfl)
theorem dJ26_indexOf_17 : decode cJ26_indexOf 17 = .ok (.if_icmp .lt 5, 3) := dk_161 0 5 (dk_at dksJ26_indexOf_0 17 rfl rfl)
theorem dJ26_indexOf_20 : decode cJ26_indexOf 20 = .ok (.iconst (-1), 1) := dk_2 (dk_at dksJ26_indexOf_0 20 rfl rfl)
theorem dJ26_indexOf_21 : decode cJ26_indexOf 21 = .ok (.ireturn, 1) := dk_172 (dk_at dksJ26_indexOf_0 21 rfl rfl)
theorem dJ26_indexOf_22 : decode cJ26_indexOf 22 = .ok (.iload_n 1, 1) := dk_27 (dk_at dksJ26_indexOf_0 22 rfl rfl)
theorem dJ26_indexOf_23 : decode cJ26_indexOf 23 = .ok (.ldc 227, 2) := dk_18 227 (dk_at dksJ26_indexOf_1 0 rfl rfl)
theorem dJ26_indexOf_25 : decode cJ26_indexOf 25 = .ok (.if_icmp .ge 11, 3) := dk_162 0 11 (dk_at dksJ26_indexOf_1 2 rfl rfl)
theorem dJ26_indexOf_28 : decode cJ26_indexOf 28 = .ok (.aload_n 0, 1) := dk_42 (dk_at dksJ26_indexOf_1 5 rfl rfl)
theorem dJ26_indexOf_29 : decode cJ26_indexOf 29 = .ok (.iload_n 1, 1) := dk_27 (dk_at dksJ26_indexOf_1 6 rfl rfl)
theorem dJ26_indexOf_30 : decode cJ26_indexOf 30 = .ok (.iload_n 2, 1) := dk_28 (dk_at dksJ26_indexOf_1 7 rfl rfl)
theorem dJ26_indexOf_31 : decode cJ26_indexOf 31 = .ok (.iload_n 3, 1) := dk_29 (dk_at dksJ26_indexOf_1 8 rfl rfl)
theorem dJ26_indexOf_32 : decode cJ26_indexOf 32 = .ok (.invokestatic 228, 3) := dk_184 0 228 (dk_at dksJ26_indexOf_1 9 rfl rfl)
theorem dJ26_indexOf_35 : decode cJ26_indexOf 35 = .ok (.ireturn, 1) := dk_172 (dk_at dksJ26_indexOf_1 12 rfl rfl)
theorem dJ26_indexOf_36 : decode cJ26_indexOf 36 = .ok (.aload_n 0, 1) := dk_42 (dk_at dksJ26_indexOf_1 13 rfl rfl)
theorem dJ26_indexOf_37 : decode cJ26_indexOf 37 = .ok (.iload_n 1, 1) := dk_27 (dk_at dksJ26_indexOf_1 14 rfl rfl)
theorem dJ26_indexOf_38 : decode cJ26_indexOf 38 = .ok (.iload_n 2, 1) := dk_28 (dk_at dksJ26_indexOf_1 15 rfl rfl)
theorem dJ26_indexOf_39 : decode cJ26_indexOf 39 = .ok (.iload_n 3, 1) := dk_29 (dk_at dksJ26_indexOf_1 16 rfl rfl)
theorem dJ26_indexOf_40 : decode cJ26_indexOf 40 = .ok (.invokestatic 232, 3) := dk_184 0 232 (dk_at dksJ26_indexOf_1 17 rfl rfl)
theorem dJ26_indexOf_43 : decode cJ26_indexOf 43 = .ok (.ireturn, 1) := dk_172 (dk_at dksJ26_indexOf_1 20 rfl rfl)
def dkwJ26_indexOfChar_0 : List UInt8 := [28, 29, 42, 184, 0, 96, 42, 27, 28, 29, 184, 0, 244, 172]
abbrev dktJ26_indexOfChar_0 : List UInt8 := dkwJ26_indexOfChar_0 ++ []
theorem dksJ26_indexOfChar_0 : cJ26_indexOfChar.data.toList.drop 0 = dktJ26_indexOfChar_0 := by decide +kernel
theorem dJ26_indexOfChar_0 : decode cJ26_indexOfChar 0 = .ok (.iload_n 2, 1) := dk_28 (dk_at dksJ26_indexOfChar_0 0 rfl rfl)
theorem dJ26_indexOfChar_1 : decode cJ26_indexOfChar 1 = .ok (.iload_n 3, 1) := dk_29 (dk_at dksJ26_indexOfChar_0 1 rfl rfl)
theorem dJ26_indexOfChar_2 : decode cJ26_indexOfChar 2 = .ok (.aload_n 0, 1) := dk_42 (dk_at dksJ26_indexOfChar_0 2 rfl rfl)
theorem dJ26_indexOfChar_3 : decode cJ26_indexOfChar 3 = .ok (.invokestatic 96, 3) := dk_184 0 96 (dk_at dksJ26_indexOfChar_0 3 rfl rfl)
theorem dJ26_indexOfChar_6 : decode cJ26_indexOfChar 6 = .ok (.aload_n 0, 1) := dk_42 (dk_at dksJ26_indexOfChar_0 6 rfl rfl)
theorem dJ26_indexOfChar_7 : decode cJ26_indexOfChar 7 = .ok (.iload_n 1, 1) := dk_27 (dk_at dksJ26_indexOfChar_0 7 rfl rfl)
theorem dJ26_indexOfChar_8 : decode cJ26_indexOfChar 8 = .ok (.iload_n 2, 1) := dk_28 (dk_at dksJ26_indexOfChar_0 8 rfl rfl)
theorem dJ26_indexOfChar_9 : decode cJ26_indexOfChar 9 = .ok (.iload_n 3, 1) := dk_29 (dk_at dksJ26_indexOfChar_0 9 rfl rfl)
theorem dJ26_indexOfChar_10 : decode cJ26_indexOfChar 10 = .ok (.invokestatic 244, 3) := dk_184 0 244 (dk_at dksJ26_indexOfChar_0 10 rfl rfl)
theorem dJ26_indexOfChar_13 : decode cJ26_indexOfChar 13 = .ok (.ireturn, 1) := dk_172 (dk_at dksJ26_indexOfChar_0 13 rfl rfl)
def dkwJ26_indexOfCharUnsafe_1 : List UInt8 := [132, 4, 1, 167, 255, 234, 2, 172]
abbrev dktJ26_indexOfCharUnsafe_1 : List UInt8 := dkwJ26_indexOfCharUnsafe_1 ++ []
def dkwJ26_indexOfCharUnsafe_0 : List UInt8 := [28, 54, 4, 21, 4, 29, 162, 0, 22, 42, 21, 4, 184, 0, 71, 27, 160, 0, 6, 21, 4, 172]
abbrev dktJ26_indexOfCharUnsafe_0 : List UInt8 := dkwJ26_indexOfCharUnsafe_0 ++ dktJ26_indexOfCharUnsafe_1
theorem dksJ26_indexOfCharUnsafe_0 : cJ26_indexOfCharUnsafe.data.toList.drop 0 = dktJ26_indexOfCharUnsafe_0 := by decide +kernel
theorem dksJ26_indexOfCharUnsafe_1 : cJ26_indexOfCharUnsafe.data.toList.drop 22 = dktJ26_indexOfCharUnsafe_1 := dk_seg dksJ26_indexOfCharUnsafe_0 22 rfl rfl
theorem dJ26_indexOfCharUnsafe_0 : decode cJ26_indexOfCharUnsafe 0 = .ok (.iload_n 2, 1) := dk_28 (dk_at dksJ26_indexOfCharUnsafe_0 0 rfl rfl)
theorem dJ26_indexOfCharUnsafe_1 : decode cJ26_indexOfCharUnsafe 1 = .ok (.istore 4, 2) := dk_54 4 (dk_at dksJ26_indexOfCharUnsafe_0 1 rfl rfl)
theorem dJ26_indexOfCharUnsafe_3 : decode cJ26_indexOfCharUnsafe 3 = .ok (.iload 4, 2) := dk_21 4 (dk_at dksJ26_indexOfCharUnsafe_0 3 rfl rfl)
theorem dJ26_indexOfCharUnsafe_5 : decode cJ26_indexOfCharUnsafe 5 = .ok (.iload_n 3, 1) := dk_29 (dk_at dksJ26_indexOfCharUnsafe_0 5 rfl rfl)
theorem dJ26_indexOfCharUnsafe_6 : decode cJ26_indexOfCharUnsafe 6 = .ok (.if_icmp .ge 22, 3) := dk_162 0 22 (dk_at dksJ26_indexOfCharUnsafe_0 6 rfl rfl)
theorem dJ26_indexOfCharUnsafe_9 : decode cJ26_indexOfCharUnsafe 9 = .ok (.aload_n 0, 1) := dk_42 (dk_at dksJ26_indexOfCharUnsafe_0 9 rfl rfl)
theorem dJ26_indexOfCharUnsafe_10 : decode cJ26_indexOfCharUnsafe 10 = .ok (.iload 4, 2) := dk_21 4 (dk_at dksJ26_indexOfCharUnsafe_0 10 rfl rfl)
theorem dJ26_indexOfCharUnsafe_12 : decode cJ26_indexOfCharUnsafe 12 = .ok (.invokestatic 71, 3) := dk_184 0 71 (dk_at dksJ26_indexOfCharUnsafe_0 12 rfl rfl)
theorem dJ26_indexOfCharUnsafe_15 : decode cJ26_indexOfCharUnsafe 15 = .ok (.iload_n 1, 1) := dk_27 (dk_at dksJ26_indexOfCharUnsafe_0 15 rfl rfl)
theorem dJ26_indexOfCharUnsafe_16 : decode cJ26_indexOfCharUnsafe 16 = .ok (.if_icmp .ne 6, 3) := dk_160 0 6 (dk_at dksJ26_indexOfCharUnsafe_0 16 rfl rfl)
theorem dJ26_indexOfCharUnsafe_19 : decode cJ26_indexOfCharUnsafe 19 = .ok (.iload 4, 2) := dk_21 4 (dk_at dksJ26_indexOfCharUnsafe_0 19 rfl rfl)
theorem dJ26_indexOfCharUnsafe_21 : decode cJ26_indexOfCharUnsafe 21 = .ok (.ireturn, 1) := dk_172 (dk_at dksJ26_indexOfCharUnsafe_0 21 rfl rfl)
theorem dJ26_indexOfCharUnsafe_22 : decode cJ26_indexOfCharUnsafe 22 = .ok (.iinc 4 1, 3) := dk_132 4 1 (dk_at dksJ26_indexOfCharUnsafe_1 0 rfl rfl)
theorem dJ26_indexOfCharUnsafe_25 : decode cJ26_indexOfCharUnsafe 25 = .ok (.goto (-22), 3) := dk_167 255 234 (dk_at dksJ26_indexOfCharUnsafe_1 3 rfl rfl)
theorem dJ26_indexOfCharUnsafe_28 : decode cJ26_indexOfCharUnsafe 28 = .ok (.iconst (-1), 1) := dk_2 (dk_at dksJ26_indexOfCharUnsafe_1 6 rfl rfl)
theorem dJ26_indexOfCharUnsafe_29 : decode cJ26_indexOfCharUnsafe 29 = .ok (.ireturn, 1) := dk_172 (dk_at dksJ26_indexOfCharUnsafe_1 7 rfl rfl)
def dkwJ26_indexOfSupplementary_3 : List UInt8 := [167, 255, 218, 2, 172]
abbrev dktJ26_indexOfSupplementary_3 : List UInt8 := dkwJ26_indexOfSupplementary_3 ++ []
def dkwJ26_indexOfSupplementary_2 : List UInt8 := [160, 0, 19, 42, 21, 6, 4, 96, 184, 0, 71, 21, 5, 160, 0, 6, 21, 6, 172, 132, 6, 1]
abbrev dktJ26_indexOfSupplementary_2 : List UInt8 := dkwJ26_indexOfSupplementary_2 ++ dktJ26_indexOfSupplementary_3
def dkwJ26_indexOfSupplementary_1 : List UInt8 := [184, 0, 96, 28, 54, 6, 21, 6, 29, 4, 100, 162, 0, 36, 42, 21, 6, 184, 0, 71, 21, 4]
abbrev dktJ26_indexOfSupplementary_1 : List UInt8 := dkwJ26_indexOfSupplementary_1 ++ dktJ26_indexOfSupplementary_2
def dkwJ26_indexOfSupplementary_0 : List UInt8 := [27, 184, 0, 164, 153, 0, 65, 27, 184, 0, 157, 54, 4, 27, 184, 0, 161, 54, 5, 28, 29, 42]
abbrev dktJ26_indexOfSupplementary_0 : List UInt8 := dkwJ26_indexOfSupplementary_0 ++ dktJ26_indexOfSupplementary_1
theorem dksJ26_indexOfSupplementary_0 : cJ26_indexOfSupplementary.data.toList.drop 0 = dktJ26_indexOfSupplementary_0 := by decide +kernel
theorem dksJ26_indexOfSupplementary_1 : cJ26_indexOfSupplementary.data.toList.drop 22 = dktJ26_indexOfSupplementary_1 := dk_seg dksJ26_indexOfSupplementary_0 22 rfl rfl
theorem dksJ26_indexOfSupplementary_2 : cJ26_indexOfSupplementary.data.toList.drop 44 = dktJ26_indexOfSupplementary_2 := dk_seg dksJ26_indexOfSupplementary_1 22 rfl rfl
theorem dksJ26_indexOfSupplementary_3 : cJ26_indexOfSupplementary.data.toList.drop 66 = dktJ26_indexOfSupplementary_3 := dk_seg dksJ26_indexOfSupplementary_2 22 rfl rfl
theorem dJ26_indexOfSupplementary_0 : decode cJ26_indexOfSupplementary 0 = .ok (.iload_n 1, 1) := dk_27 (dk_at dksJ26_indexOfSupplementary_0 0 rfl rfl)
theorem dJ26_indexOfSupplementary_1 : decode cJ26_indexOfSupplementary 1 = .ok (.invokestatic 164, 3) := dk_184 0 164 (dk_at dksJ26_indexOfSupplementary_0 1 rfl rfl)
theorem dJ26_indexOfSupplementary_4 : decode cJ26_indexOfSupplementary 4 = .ok (.ifCond .eq 65, 3) := dk_153 0 65 (dk_at dksJ26_indexOfSupplementary_0 4 rfl rfl)
theorem dJ26_indexOfSupplementary_7 : decode cJ26_indexOfSupplementary 7 = .ok (.iload_n 1, 1) := dk_27 (dk_at dksJ26_indexOfSupplementary_0 7 rfl rfl)
theorem dJ26_indexOfSupplementary_8 : decode cJ26_indexOfSupplementary 8 = .ok (.invokestatic 157, 3) := dk_184 0 157 (dk_at dksJ26_indexOfSupplementary_0 8 rfl rfl)
theorem dJ26_indexOfSupplementary_11 : decode cJ26_indexOfSupplementary 11 = .ok (.istore 4, 2) := dk_54 4 (dk_at dksJ26_indexOfSupplementary_0 11 rfl rfl)
theorem dJ26_indexOfSupplementary_13 : decode cJ26_indexOfSupplementary 13 = .ok (.iload_n 1, 1) := dk_27 (dk_at dksJ26_indexOfSupplementary_0 13 rfl rfl)
theorem dJ26_indexOfSupplementary_14 : decode cJ26_indexOfSupplementary 14 = .ok (.invokestatic 161, 3) := dk_184 0 161 (dk_at dksJ26_indexOfSupplementary_0 14 rfl rfl)
theorem dJ26_indexOfSupplementary_17 : decode cJ26_indexOfSupplementary 17 = .ok (.istore 5, 2) := dk_54 5 (dk_at dksJ26_indexOfSupplementary_0 17 rfl rfl)
theorem dJ26_indexOfSupplementary_19 : decode cJ26_indexOfSupplementary 19 = .ok (.iload_n 2, 1) := dk_28 (dk_at dksJ26_indexOfSupplementary_0 19 rfl rfl)
theorem dJ26_indexOfSupplementary_20 : decode cJ26_indexOfSupplementary 20 = .ok (.iload_n 3, 1) := dk_29 (dk_at dksJ26_indexOfSupplementary_0 20 rfl rfl)
theorem dJ26_indexOfSupplementary_21 : decode cJ26_indexOfSupplementary 21 = .ok (.aload_n 0, 1) := dk_42 (dk_at dksJ26_indexOfSupplementary_0 21 rfl rfl)
theorem dJ26_indexOfSupplementary_22 : decode cJ26_indexOfSupplementary 22 = .ok (.invokestatic 96, 3) := dk_184 0 96 (dk_at dksJ26_indexOfSupplementary_1 0 rfl rfl)
theorem dJ26_indexOfSupplementary_25 : decode cJ26_indexOfSupplementary 25 = .ok (.iload_n 2, 1) := dk_28 (dk_at dksJ26_indexOfSupplementary_1 3 rfl rfl)
theorem dJ26_indexOfSupplementary_26 : decode cJ26_indexOfSupplementary 26 = .ok (.istore 6, 2) := dk_54 6 (dk_at dksJ26_indexOfSupplementary_1 4 rfl rfl)
theorem dJ26_indexOfSupplementary_28 : decode cJ26_indexOfSupplementary 28 = .ok (.iload 6, 2) := dk_21 6 (dk_at dksJ26_indexOfSupplementary_1 6 rfl rfl)
theorem dJ26_indexOfSupplementary_30 : decode cJ26_indexOfSupplementary 30 = .ok (.iload_n 3, 1) := dk_29 (dk_at dksJ26_indexOfSupplementary_1 8 rfl rfl)
theorem dJ26_indexOfSupplementary_31 : decode cJ26_indexOfSupplementary 31 = .ok (.iconst 1, 1) := dk_4 (dk_at dksJ26_indexOfSupplementary_1 9 rfl rfl)
theorem dJ26_indexOfSupplementary_32 : decode cJ26_indexOfSupplementary 32 = .ok (.isub, 1) := dk_100 (dk_at dksJ26_indexOfSupplementary_1 10 rfl rfl)
theorem dJ26_indexOfSupplementary_33 : decode cJ26_indexOfSupplementary 33 = .ok (.if_icmp .ge 36, 3) := dk_162 0 36 (dk_at dksJ26_indexOfSupplementary_1 11 rfl rfl)
theorem dJ26_indexOfSupplementary_36 : decode cJ26_indexOfSupplementary 36 = .ok (.aload_n 0, 1) := dk_42 (dk_at dksJ26_indexOfSupplementary_1 14 rfl rfl)
theorem dJ26_indexOfSupplementary_37 : decode cJ26_indexOfSupplementary 37 = .ok (.iload 6, 2) := dk_21 6 (dk_at dksJ26_indexOfSupplementary_1 15 rfl rfl)
theorem dJ26_indexOfSupplementary_39 : decode cJ26_indexOfSupplementary 39 = .ok (.invokestatic 71, 3) := dk_184 0 71 (dk_at dksJ26_indexOfSupplementary_1 17 rfl rfl)
theorem dJ26_indexOfSupplementary_42 : decode cJ26_indexOfSupplementary 42 = .ok (.iload 4, 2) := dk_21 4 (dk_at dksJ26_indexOfSupplementary_1 20 rfl rfl)
theorem dJ26_indexOfSupplementary_44 : decode cJ26_indexOfSupplementary 44 = .ok (.if_icmp .ne 19, 3) := dk_160 0 19 (dk_at dksJ26_indexOfSupplementary_2 0 rfl rfl)
theorem dJ26_indexOfSupplementary_47 : decode cJ26_indexOfSupplementary 47 = .ok (.aload_n 0, 1) := dk_42 (dk_at dksJ26_indexOfSupplementary_2 3 rfl rfl)
theorem dJ26_indexOfSupplementary_48 : decode cJ26_indexOfSupplementary 48 = .ok (.iload 6, 2) := dk_21 6 (dk_at dksJ26_indexOfSupplementary_2 4 rfl rfl)
theorem dJ26_indexOfSupplementary_50 : decode cJ26_indexOfSupplementary 50 = .ok (.iconst 1, 1) := dk_4 (dk_at dksJ26_indexOfSupplementary_2 6 rfl rfl)
theorem dJ26_indexOfSupplementary_51 : decode cJ26_indexOfSupplementary 51 = .ok (.iadd, 1) := dk_96 (dk_at dksJ26_indexOfSupplementary_2 7 rfl rfl)
theorem dJ26_indexOfSupplementary_52 : decode cJ26_indexOfSupplementary 52 = .ok (.invokestatic 71, 3) := dk_184 0 71 (dk_at dksJ26_indexOfSupplementary_2 8 rfl rfl)
theorem dJ26_indexOfSupplementary_55 : decode cJ26_indexOfSupplementary 55 = .ok (.iload 5, 2) := dk_21 5 (dk_at dksJ26_indexOfSupplementary_2 11 rfl rfl)
theorem dJ26_indexOfSupplementary_57 : decode cJ26_indexOfSupplementary 57 = .ok (.if_icmp .ne 6, 3) := dk_160 0 6 (dk_at dksJ26_indexOfSupplementary_2 13 rfl rfl)
theorem dJ26_indexOfSupplementary_60 : decode cJ26_indexOfSupplementary 60 = .ok (.iload 6, 2) := dk_21 6 (dk_at dksJ26_indexOfSupplementary_2 16 rfl rfl)
theorem dJ26_indexOfSupplementary_62 : decode cJ26_indexOfSupplementary 62 = .ok (.ireturn, 1) := dk_172 (dk_at dksJ26_indexOfSupplementary_2 18 rfl rfl)
theorem dJ26_indexOfSupplementary_63 : decode cJ26_indexOfSupplementary 63 = .ok (.iinc 6 1, 3) := dk_132 6 1 (dk_at dksJ26_indexOfSupplementary_2 19 rfl rfl)
theorem dJ26_indexOfSupplementary_66 : decode cJ26_indexOfSupplementary 66 = .ok (.goto (-38), 3) := dk_167 255 218 (dk_at dksJ26_indexOfSupplementary_3 0 rfl rfl)
theorem dJ26_indexOfSupplementary_69 : decode cJ26_indexOfSupplementary 69 = .ok (.iconst (-1), 1) := dk_2 (dk_at dksJ26_indexOfSupplementary_3 3 rfl rfl)
theorem dJ26_indexOfSupplementary_70 : decode cJ26_indexOfSupplementary 70 = .ok (.ireturn, 1) := dk_172 (dk_at dksJ26_indexOfSupplementary_3 4 rfl rfl)
def dkwJ27_newLength_1 : List UInt8 := [184, 0, 201, 172]
abbrev dktJ27_newLength_1 : List UInt8 := dkwJ27_newLength_1 ++ []
def dkwJ27_newLength_0 : List UInt8 := [26, 27, 28, 184, 0, 194, 96, 62, 3, 29, 162, 0, 11, 29, 18, 200, 163, 0, 5, 29, 172, 26, 27]
abbrev dktJ27_newLength_0 : List UInt8 := dkwJ27_newLength_0 ++ dktJ27_newLength_1
theorem dksJ27_newLength_0 : cJ27_newLength.data.toList.drop 0 = dktJ27_newLength_0 := by decide +kernel
theorem dksJ27_newLength_1 : cJ27_newLength.data.toList.drop 23 = dktJ27_newLength_1 := dk_seg dksJ27_newLength_0 23 rfl rfl
theorem dJ27_newLength_0 : decode cJ27_newLength 0 = .ok (.iload_n 0, 1) := dk_26 (dk_at dksJ27_newLength_0 0 rfl rfl)
theorem dJ27_newLength_1 : decode cJ27_newLength 1 = .ok (.iload_n 1, 1) := dk_27 (dk_at dksJ27_newLength_0 1 rfl rfl)
theorem dJ27_newLength_2 : decode cJ27_newLength 2 = .ok (.iload_n 2, 1) := dk_28 (dk_at dksJ27_newLength_0 2 rfl rfl)
theorem dJ27_newLength_3 : decode cJ27_newLength 3 = .ok (.invokestatic 194, 3) := dk_184 0 194 (dk_at dksJ27_newLength_0 3 rfl rfl)
theorem dJ27_newLength_6 : decode cJ27_newLength 6 = .ok (.iadd, 1) := dk_96 (dk_at dksJ27_newLength_0 6 rfl rfl)
theorem dJ27_newLength_7 : decode cJ27_newLength 7 = .ok (.istore_n 3, 1) := dk_62 (dk_at dksJ27_newLength_0 7 rfl rfl)
theorem dJ27_newLength_8 : decode cJ27_newLength 8 = .ok (.iconst 0, 1) := dk_3 (dk_at dksJ27_newLength_0 8 rfl rfl)
theorem dJ27_newLength_9 : decode cJ27_newLength 9 = .ok (.iload_n 3, 1) := dk_29 (dk_at dksJ27_newLength_0 9 rfl rfl)
theorem dJ27_newLength_10 : decode cJ27_newLength 10 = .ok (.if_icmp .ge 11, 3) := dk_162 0 11 (dk_at dksJ27_newLength_0 10 rfl rfl)
theorem dJ27_newLength_13 : decode cJ27_newLength 13 = .ok (.iload_n 3, 1) := dk_29 (dk_at dksJ27_newLength_0 13 rfl rfl)
theorem dJ27_newLength_14 : decode cJ27_newLength 14 = .ok (.ldc 200, 2) := dk_18 200 (dk_at dksJ27_newLength_0 14 rfl rfl)
theorem dJ27_newLength_16 : decode cJ27_newLength 16 = .ok (.if_icmp .gt 5, 3) := dk_163 0 5 (dk_at dksJ27_newLength_0 16 rfl rfl)
theorem dJ27_newLength_19 : decode cJ27_newLength 19 = .ok (.iload_n 3, 1) := dk_29 (dk_at dksJ27_newLength_0 19 rfl rfl)
theorem dJ27_newLength_20 : decode cJ27_newLength 20 = .ok (.ireturn, 1) := dk_172 (dk_at dksJ27_newLength_0 20 rfl rfl)
theorem dJ27_newLength_21 : decode cJ27_newLength 21 = .ok (.iload_n 0, 1) := dk_26 (dk_at dksJ27_newLength_0 21 rfl rfl)
theorem dJ27_newLength_22 : decode cJ27_newLength 22 = .ok (.iload_n 1, 1) := dk_27 (dk_at dksJ27_newLength_0 22 rfl rfl)
theorem dJ27_newLength_23 : decode cJ27_newLength 23 = .ok (.invokestatic 201, 3) := dk_184 0 201 (dk_at dksJ27_newLength_1 0 rfl rfl)
theorem dJ27_newLength_26 : decode cJ27_newLength 26 = .ok (.ireturn, 1) := dk_172 (dk_at dksJ27_newLength_1 3 rfl rfl)
def dkwJ27_hugeLength_2 : List UInt8 := [191, 28, 18, 200, 163, 0, 6, 18, 200, 172, 28, 172]
abbrev dktJ27_hugeLength_2 : List UInt8 := dkwJ27_hugeLength_2 ++ []
def dkwJ27_hugeLength_1 : List UInt8 := [26, 182, 0, 98, 18, 208, 182, 0, 94, 27, 182, 0, 98, 18, 210, 182, 0, 94, 182, 0, 101, 183, 0, 212]
abbrev dktJ27_hugeLength_1 : List UInt8 := dkwJ27_hugeLength_1 ++ dktJ27_hugeLength_2
def dkwJ27_hugeLength_0 : List UInt8 := [26, 27, 96, 61, 28, 156, 0, 44, 187, 0, 204, 89, 187, 0, 89, 89, 183, 0, 91, 18, 206, 182, 0, 94]
abbrev dktJ27_hugeLength_0 : List UInt8 := dkwJ27_hugeLength_0 ++ dktJ27_hugeLength_1
theorem dksJ27_hugeLength_0 : cJ27_hugeLength.data.toList.drop 0 = dktJ27_hugeLength_0 := by decide +kernel
theorem dksJ27_hugeLength_1 : cJ27_hugeLength.data.toList.drop 24 = dktJ27_hugeLength_1 := dk_seg dksJ27_hugeLength_0 24 rfl rfl
theorem dksJ27_hugeLength_2 : cJ27_hugeLength.data.toList.drop 48 = dktJ27_hugeLength_2 := dk_seg dksJ27_hugeLength_1 24 rfl rfl
theorem dJ27_hugeLength_0 : decode cJ27_hugeLength 0 = .ok (.iload_n 0, 1) := dk_26 (dk_at dksJ27_hugeLength_0 0 rfl rfl)
theorem dJ27_hugeLength_1 : decode cJ27_hugeLength 1 = .ok (.iload_n 1, 1) := dk_27 (dk_at dksJ27_hugeLength_0 1 rfl rfl)
theorem dJ27_hugeLength_2 : decode cJ27_hugeLength 2 = .ok (.iadd, 1) := dk_96 (dk_at dksJ27_hugeLength_0 2 rfl rfl)
theorem dJ27_hugeLength_3 : decode cJ27_hugeLength 3 = .ok (.istore_n 2, 1) := dk_61 (dk_at dksJ27_hugeLength_0 3 rfl rfl)
theorem dJ27_hugeLength_4 : decode cJ27_hugeLength 4 = .ok (.iload_n 2, 1) := dk_28 (dk_at dksJ27_hugeLength_0 4 rfl rfl)
theorem dJ27_hugeLength_5 : decode cJ27_hugeLength 5 = .ok (.ifCond .ge 44, 3) := dk_156 0 44 (dk_at dksJ27_hugeLength_0 5 rfl rfl)
theorem dJ27_hugeLength_8 : decode cJ27_hugeLength 8 = .ok (.new 204, 3) := dk_187 0 204 (dk_at dksJ27_hugeLength_0 8 rfl rfl)
theorem dJ27_hugeLength_11 : decode cJ27_hugeLength 11 = .ok (.dup, 1) := dk_89 (dk_at dksJ27_hugeLength_0 11 rfl rfl)
theorem dJ27_hugeLength_12 : decode cJ27_hugeLength 12 = .ok (.new 89, 3) := dk_187 0 89 (dk_at dksJ27_hugeLength_0 12 rfl rfl)
theorem dJ27_hugeLength_15 : decode cJ27_hugeLength 15 = .ok (.dup, 1) := dk_89 (dk_at dksJ27_hugeLength_0 15 rfl rfl)
theorem dJ27_hugeLength_16 : decode cJ27_hugeLength 16 = .ok (.invokespecial 91, 3) := dk_183 0 91 (dk_at dksJ27_hugeLength_0 16 rfl rfl)
theorem dJ27_hugeLength_19 : decode cJ27_hugeLength 19 = .ok (.ldc 206, 2) := dk_18 206 (dk_at dksJ27_hugeLength_0 19 rfl rfl)
theorem dJ27_hugeLength_21 : decode cJ27_hugeLength 21 = .ok (.invokevirtual 94, 3) := dk_182 0 94 (dk_at dksJ27_hugeLength_0 21 rfl rfl)
theorem dJ27_hugeLength_24 : decode cJ27_hugeLength 24 = .ok (.iload_n 0, 1) := dk_26 (dk_at dksJ27_hugeLength_1 0 rfl rfl)
theorem dJ27_hugeLength_25 : decode cJ27_hugeLength 25 = .ok (.invokevirtual 98, 3) := dk_182 0 98 (dk_at dksJ27_hugeLength_1 1 rfl rfl)
theorem dJ27_hugeLength_28 : decode cJ27_hugeLength 28 = .ok (.ldc 208, 2) := dk_18 208 (dk_at dksJ27_hugeLength_1 4 rfl rfl)
theorem dJ27_hugeLength_30 : decode cJ27_hugeLength 30 = .ok (.invokevirtual 94, 3) := dk_182 0 94 (dk_at dksJ27_hugeLength_1 6 rfl rfl)
theorem dJ27_hugeLength_33 : decode cJ27_hugeLength 33 = .ok (.iload_n 1, 1) := dk_27 (dk_at dksJ27_hugeLength_1 9 rfl rfl)
theorem dJ27_hugeLength_34 : decode cJ27_hugeLength 34 = .ok (.invokevirtual 98, 3) := dk_182 0 98 (dk_at dksJ27_hugeLength_1 10 rfl rfl)
theorem dJ27_hugeLength_37 : decode cJ27_hugeLength 37 = .ok (.ldc 210, 2) := dk_18 210 (dk_at dksJ27_hugeLength_1 13 rfl rfl)
theorem dJ27_hugeLength_39 : decode cJ27_hugeLength 39 = .ok (.invokevirtual 94, 3) := dk_182 0 94 (dk_at dksJ27_hugeLength_1 15 rfl rfl)
theorem dJ27_hugeLength_42 : decode cJ27_hugeLength 42 = .ok (.invokevirtual 101, 3) := dk_182 0 101 (dk_at dksJ27_hugeLength_1 18 rfl rfl)
theorem dJ27_hugeLength_45 : decode cJ27_hugeLength 45 = .ok (.invokespecial 212, 3) := dk_183 0 212 (dk_at dksJ27_hugeLength_1 21 rfl rfl)
theorem dJ27_hugeLength_48 : decode cJ27_hugeLength 48 = .ok (.athrow, 1) := dk_191 (dk_at dksJ27_hugeLength_2 0 rfl rfl)
theorem dJ27_hugeLength_49 : decode cJ27_hugeLength 49 = .ok (.iload_n 2, 1) := dk_28 (dk_at dksJ27_hugeLength_2 1 rfl rfl)
theorem dJ27_hugeLength_50 : decode cJ27_hugeLength 50 = .ok (.ldc 200, 2) := dk_18 200 (dk_at dksJ27_hugeLength_2 2 rfl rfl)
theorem dJ27_hugeLength_52 : decode cJ27_hugeLength 52 = .ok (.if_icmp .gt 6, 3) := dk_163 0 6 (dk_at dksJ27_hugeLength_2 4 rfl rfl)
theorem dJ27_hugeLength_55 : decode cJ27_hugeLength 55 = .ok (.ldc 200, 2) := dk_18 200 (dk_at dksJ27_hugeLength_2 7 rfl rfl)
theorem dJ27_hugeLength_57 : decode cJ27_hugeLength 57 = .ok (.ireturn, 1) := dk_172 (dk_at dksJ27_hugeLength_2 9 rfl rfl)
theorem dJ27_hugeLength_58 : decode cJ27_hugeLength 58 = .ok (.iload_n 2, 1) := dk_28 (dk_at dksJ27_hugeLength_2 10 rfl rfl)
theorem dJ27_hugeLength_59 : decode cJ27_hugeLength 59 = .ok (.ireturn, 1) := dk_172 (dk_at dksJ27_hugeLength_2 11 rfl rfl)
def dkwJ28_checkFromToIndex_0 : List UInt8 := [26, 155, 0, 13, 26, 27, 163, 0, 8, 27, 28, 164, 0, 11, 45, 26, 27, 28, 184, 0, 99, 191, 26, 172]
abbrev dktJ28_checkFromToIndex_0 : List UInt8 := dkwJ28_checkFromToIndex_0 ++ []
theorem dksJ28_checkFromToIndex_0 : cJ28_checkFromToIndex.data.toList.drop 0 = dktJ28_checkFromToIndex_0 := by decide +kernel
theorem dJ28_checkFromToIndex_0 : decode cJ28_checkFromToIndex 0 = .ok (.iload_n 0, 1) := dk_26 (dk_at dksJ28_checkFromToIndex_0 0 rfl rfl)
theorem dJ28_checkFromToIndex_1 : decode cJ28_checkFromToIndex 1 = .ok (.ifCond .lt 13, 3) := dk_155 0 13 (dk_at dksJ28_checkFromToIndex_0 1 rfl rfl)
theorem dJ28_checkFromToIndex_4 : decode cJ28_checkFromToIndex 4 = .ok (.iload_n 0, 1) := dk_26 (dk_at dksJ28_checkFromToIndex_0 4 rfl rfl)
theorem dJ28_checkFromToIndex_5 : decode cJ28_checkFromToIndex 5 = .ok (.iload_n 1, 1) := dk_27 (dk_at dksJ28_checkFromToIndex_0 5 rfl rfl)
theorem dJ28_checkFromToIndex_6 : decode cJ28_checkFromToIndex 6 = .ok (.if_icmp .gt 8, 3) := dk_163 0 8 (dk_at dksJ28_checkFromToIndex_0 6 rfl rfl)
theorem dJ28_checkFromToIndex_9 : decode cJ28_checkFromToIndex 9 = .ok (.iload_n 1, 1) := dk_27 (dk_at dksJ28_checkFromToIndex_0 9 rfl rfl)
theorem dJ28_checkFromToIndex_10 : decode cJ28_checkFromToIndex 10 = .ok (.iload_n 2, 1) := dk_28 (dk_at dksJ28_checkFromToIndex_0 10 rfl rfl)
theorem dJ28_checkFromToIndex_11 : decode cJ28_checkFromToIndex 11 = .ok (.if_icmp .le 11, 3) := dk_164 0 11 (dk_at dksJ28_checkFromToIndex_0 11 rfl rfl)
theorem dJ28_checkFromToIndex_14 : decode cJ28_checkFromToIndex 14 = .ok (.aload_n 3, 1) := dk_45 (dk_at dksJ28_checkFromToIndex_0 14 rfl rfl)
theorem dJ28_checkFromToIndex_15 : decode cJ28_checkFromToIndex 15 = .ok (.iload_n 0, 1) := dk_26 (dk_at dksJ28_checkFromToIndex_0 15 rfl rfl)
theorem dJ28_checkFromToIndex_16 : decode cJ28_checkFromToIndex 16 = .ok (.iload_n 1, 1) := dk_27 (dk_at dksJ28_checkFromToIndex_0 16 rfl rfl)
theorem dJ28_checkFromToIndex_17 : decode cJ28_checkFromToIndex 17 = .ok (.iload_n 2, 1) := dk_28 (dk_at dksJ28_checkFromToIndex_0 17 rfl rfl)
theorem dJ28_checkFromToIndex_18 : decode cJ28_checkFromToIndex 18 = .ok (.invokestatic 99, 3) := dk_184 0 99 (dk_at dksJ28_checkFromToIndex_0 18 rfl rfl)
theorem dJ28_checkFromToIndex_21 : decode cJ28_checkFromToIndex 21 = .ok (.athrow, 1) := dk_191 (dk_at dksJ28_checkFromToIndex_0 21 rfl rfl)
theorem dJ28_checkFromToIndex_22 : decode cJ28_checkFromToIndex 22 = .ok (.iload_n 0, 1) := dk_26 (dk_at dksJ28_checkFromToIndex_0 22 rfl rfl)
theorem dJ28_checkFromToIndex_23 : decode cJ28_checkFromToIndex 23 = .ok (.ireturn, 1) := dk_172 (dk_at dksJ28_checkFromToIndex_0 23 rfl rfl)
def dkwJ28_checkFromIndexSize_1 : List UInt8 := [172]
abbrev dktJ28_checkFromIndexSize_1 : List UInt8 := dkwJ28_checkFromIndexSize_1 ++ []
def dkwJ28_checkFromIndexSize_0 : List UInt8 := [28, 26, 128, 27, 128, 155, 0, 10, 27, 28, 26, 100, 164, 0, 11, 45, 26, 27, 28, 184, 0, 103, 191, 26]
abbrev dktJ28_checkFromIndexSize_0 : List UInt8 := dkwJ28_checkFromIndexSize_0 ++ dktJ28_checkFromIndexSize_1
theorem dksJ28_checkFromIndexSize_0 : cJ28_checkFromIndexSize.data.toList.drop 0 = dktJ28_checkFromIndexSize_0 := by decide +kernel
theorem dksJ28_checkFromIndexSize_1 : cJ28_checkFromIndexSize.data.toList.drop 24 = dktJ28_checkFromIndexSize_1 := dk_seg dksJ28_checkFromIndexSize_0 24 rfl rfl
theorem dJ28_checkFromIndexSize_0 : decode cJ28_checkFromIndexSize 0 = .ok (.iload_n 2, 1) := dk_28 (dk_at dksJ28_checkFromIndexSize_0 0 rfl rfl)
theorem dJ28_checkFromIndexSize_1 : decode cJ28_checkFromIndexSize 1 = .ok (.iload_n 0, 1) := dk_26 (dk_at dksJ28_checkFromIndexSize_0 1 rfl rfl)
theorem dJ28_checkFromIndexSize_2 : decode cJ28_checkFromIndexSize 2 = .ok (.ior, 1) := dk_128 (dk_at dksJ28_checkFromIndexSize_0 2 rfl rfl)
theorem dJ28_checkFromIndexSize_3 : decode cJ28_checkFromIndexSize 3 = .ok (.iload_n 1, 1) := dk_27 (dk_at dksJ28_checkFromIndexSize_0 3 rfl rfl)
theorem dJ28_checkFromIndexSize_4 : decode cJ28_checkFromIndexSize 4 = .ok (.ior, 1) := dk_128 (dk_at dksJ28_checkFromIndexSize_0 4 rfl rfl)
theorem dJ28_checkFromIndexSize_5 : decode cJ28_checkFromIndexSize 5 = .ok (.ifCond .lt 10, 3) := dk_155 0 10 (dk_at dksJ28_checkFromIndexSize_0 5 rfl rfl)
theorem dJ28_checkFromIndexSize_8 : decode cJ28_checkFromIndexSize 8 = .ok (.iload_n 1, 1) := dk_27 (dk_at dksJ28_checkFromIndexSize_0 8 rfl rfl)
theorem dJ28_checkFromIndexSize_9 : decode cJ28_checkFromIndexSize 9 = .ok (.iload_n 2, 1) := dk_28 (dk_at dksJ28_checkFromIndexSize_0 9 rfl rfl)
theorem dJ28_checkFromIndexSize_10 : decode cJ28_checkFromIndexSize 10 = .ok (.iload_n 0, 1) := dk_26 (dk_at dksJ28_checkFromIndexSize_0 10 rfl rfl)
theorem dJ28_checkFromIndexSize_11 : decode cJ28_checkFromIndexSize 11 = .ok (.isub, 1) := dk_100 (dk_at dksJ28_checkFromIndexSize_0 11 rfl rfl)
theorem dJ28_checkFromIndexSize_12 : decode cJ28_checkFromIndexSize 12 = .ok (.if_icmp .le 11, 3) := dk_164 0 11 (dk_at dksJ28_checkFromIndexSize_0 12 rfl rfl)
theorem dJ28_checkFromIndexSize_15 : decode cJ28_checkFromIndexSize 15 = .ok (.aload_n 3, 1) := dk_45 (dk_at dksJ28_checkFromIndexSize_0 15 rfl rfl)
theorem dJ28_checkFromIndexSize_16 : decode cJ28_checkFromIndexSize 16 = .ok (.iload_n 0, 1) := dk_26 (dk_at dksJ28_checkFromIndexSize_0 16 rfl rfl)
theorem dJ28_checkFromIndexSize_17 : decode cJ28_checkFromIndexSize 17 = .ok (.iload_n 1, 1) := dk_27 (dk_at dksJ28_checkFromIndexSize_0 17 rfl rfl)
theorem dJ28_checkFromIndexSize_18 : decode cJ28_checkFromIndexSize 18 = .ok (.iload_n 2, 1) := dk_28 (dk_at dksJ28_checkFromIndexSize_0 18 rfl rfl)
theorem dJ28_checkFromIndexSize_19 : decode cJ28_checkFromIndexSize 19 = .ok (.invokestatic 103, 3) := dk_184 0 103 (dk_at dksJ28_checkFromIndexSize_0 19 rfl rfl)
theorem dJ28_checkFromIndexSize_22 : decode cJ28_checkFromIndexSize 22 = .ok (.athrow, 1) := dk_191 (dk_at dksJ28_checkFromIndexSize_0 22 rfl rfl)
theorem dJ28_checkFromIndexSize_23 : decode cJ28_checkFromIndexSize 23 = .ok (.iload_n 0, 1) := dk_26 (dk_at dksJ28_checkFromIndexSize_0 23 rfl rfl)
theorem dJ28_checkFromIndexSize_24 : decode cJ28_checkFromIndexSize 24 = .ok (.ireturn, 1) := dk_172 (dk_at dksJ28_checkFromIndexSize_1 0 rfl rfl)
def dkwJ29_inflate_0 : List UInt8 := [42, 27, 44, 29, 21, 4, 184, 0, 240, 177]
abbrev dktJ29_inflate_0 : List UInt8 := dkwJ29_inflate_0 ++ []
theorem dksJ29_inflate_0 : cJ29_inflate.data.toList.drop 0 = dktJ29_inflate_0 := by decide +kernel
theorem dJ29_inflate_0 : decode cJ29_inflate 0 = .ok (.aload_n 0, 1) := dk_42 (dk_at dksJ29_inflate_0 0 rfl rfl)
theorem dJ29_inflate_1 : decode cJ29_inflate 1 = .ok (.iload_n 1, 1) := dk_27 (dk_at dksJ29_inflate_0 1 rfl rfl)
theorem dJ29_inflate_2 : decode cJ29_inflate 2 = .ok (.aload_n 2, 1) := dk_44 (dk_at dksJ29_inflate_0 2 rfl rfl)
theorem dJ29_inflate_3 : decode cJ29_inflate 3 = .ok (.iload_n 3, 1) := dk_29 (dk_at dksJ29_inflate_0 3 rfl rfl)
theorem dJ29_inflate_4 : decode cJ29_inflate 4 = .ok (.iload 4, 2) := dk_21 4 (dk_at dksJ29_inflate_0 4 rfl rfl)
theorem dJ29_inflate_6 : decode cJ29_inflate 6 = .ok (.invokestatic 240, 3) := dk_184 0 240 (dk_at dksJ29_inflate_0 6 rfl rfl)
theorem dJ29_inflate_9 : decode cJ29_inflate 9 = .ok (.return_, 1) := dk_177 (dk_at dksJ29_inflate_0 9 rfl rfl)
def dkwJ29_indexOf_1 : List UInt8 := [161, 0, 5, 2, 172, 42, 27, 28, 29, 184, 0, 95, 172]
abbrev dktJ29_indexOf_1 : List UInt8 := dkwJ29_indexOf_1 ++ []
def dkwJ29_indexOf_0 : List UInt8 := [27, 184, 0, 88, 154, 0, 5, 2, 172, 28, 3, 184, 0, 92, 61, 29, 42, 190, 184, 0, 38, 62, 28, 29]
abbrev dktJ29_indexOf_0 : List UInt8 := dkwJ29_indexOf_0 ++ dktJ29_indexOf_1
theorem dksJ29_indexOf_0 : cJ29_indexOf.data.toList.drop 0 = dktJ29_indexOf_0 := by decide +kernel
theorem dksJ29_indexOf_1 : cJ29_indexOf.data.toList.drop 24 = dktJ29_indexOf_1 := dk_seg dksJ29_indexOf_0 24 rfl rfl
theorem dJ29_indexOf_0 : decode cJ29_indexOf 0 = .ok (.iload_n 1, 1) := dk_27 (dk_at dksJ29_indexOf_0 0 rfl rfl)
theorem dJ29_indexOf_1 : decode cJ29_indexOf 1 = .ok (.invokestatic 88, 3) := dk_184 0 88 (dk_at dksJ29_indexOf_0 1 rfl rfl)
theorem dJ29_indexOf_4 : decode cJ29_indexOf 4 = .ok (.ifCond .ne 5, 3) := dk_154 0 5 (dk_at dksJ29_indexOf_0 4 rfl rfl)
theorem dJ29_indexOf_7 : decode cJ29_indexOf 7 = .ok (.iconst (-1), 1) := dk_2 (dk_at dksJ29_indexOf_0 7 rfl rfl)
theorem dJ29_indexOf_8 : decode cJ29_indexOf 8 = .ok (.ireturn, 1) := dk_172 (dk_at dksJ29_indexOf_0 8 rfl rfl)
theorem dJ29_indexOf_9 : decode cJ29_indexOf 9 = .ok (.iload_n 2, 1) := dk_28 (dk_at dksJ29_indexOf_0 9 rfl rfl)
theorem dJ29_indexOf_10 : decode cJ29_indexOf 10 = .ok (.iconst 0, 1) := dk_3 (dk_at dksJ29_indexOf_0 10 rfl rfl)
theorem dJ29_indexOf_11 : decode cJ29_indexOf 11 = .ok (.invokestatic 92, 3) := dk_184 0 92 (dk_at dksJ29_indexOf_0 11 rfl rfl)
theorem dJ29_indexOf_14 : decode cJ29_indexOf 14 = .ok (.istore_n 2, 1) := dk_61 (dk_at dksJ29_indexOf_0 14 rfl rfl)
theorem dJ29_indexOf_15 : decode cJ29_indexOf 15 = .ok (.iload_n 3, 1) := dk_29 (dk_at dksJ29_indexOf_0 15 rfl rfl)
theorem dJ29_indexOf_16 : decode cJ29_indexOf 16 = .ok (.aload_n 0, 1) := dk_42 (dk_at dksJ29_indexOf_0 16 rfl rfl)
theorem dJ29_indexOf_17 : decode cJ29_indexOf 17 = .ok (.arraylength, 1) := dk_190 (dk_at dksJ29_indexOf_0 17 rfl rfl)
theorem dJ29_indexOf_18 : decode cJ29_indexOf 18 = .ok (.invokestatic 38, 3) := dk_184 0 38 (dk_at dksJ29_indexOf_0 18 rfl rfl)
theorem dJ29_indexOf_21 : decode cJ29_indexOf 21 = .ok (.istore_n 3, 1) := dk_62 (dk_at dksJ29_indexOf_0 21 rfl rfl)
theorem dJ29_indexOf_22 : decode cJ29_indexOf 22 = .ok (.iload_n 2, 1) := dk_28 (dk_at dksJ29_indexOf_0 22 rfl rfl)
theorem dJ29_indexOf_23 : decode cJ29_indexOf 23 = .ok (.iload_n 3, 1) := dk_29 (dk_at dksJ29_indexOf_0 23 rfl rfl)
theorem dJ29_indexOf_24 : decode cJ29_indexOf 24 = .ok (.if_icmp .lt 5, 3) := dk_161 0 5 (dk_at dksJ29_indexOf_1 0 rfl rfl)
theorem dJ29_indexOf_27 : decode cJ29_indexOf 27 = .ok (.iconst (-1), 1) := dk_2 (dk_at dksJ29_indexOf_1 3 rfl rfl)
theorem dJ29_indexOf_28 : decode cJ29_indexOf 28 = .ok (.ireturn, 1) := dk_172 (dk_at dksJ29_indexOf_1 4 rfl rfl)
theorem dJ29_indexOf_29 : decode cJ29_indexOf 29 = .ok (.aload_n 0, 1) := dk_42 (dk_at dksJ29_indexOf_1 5 rfl rfl)
theorem dJ29_indexOf_30 : decode cJ29_indexOf 30 = .ok (.iload_n 1, 1) := dk_27 (dk_at dksJ29_indexOf_1 6 rfl rfl)
theorem dJ29_indexOf_31 : decode cJ29_indexOf 31 = .ok (.iload_n 2, 1) := dk_28 (dk_at dksJ29_indexOf_1 7 rfl rfl)
theorem dJ29_indexOf_32 : decode cJ29_indexOf 32 = .ok (.iload_n 3, 1) := dk_29 (dk_at dksJ29_indexOf_1 8 rfl rfl)
theorem dJ29_indexOf_33 : decode cJ29_indexOf 33 = .ok (.invokestatic 95, 3) := dk_184 0 95 (dk_at dksJ29_indexOf_1 9 rfl rfl)
theorem dJ29_indexOf_36 : decode cJ29_indexOf 36 = .ok (.ireturn, 1) := dk_172 (dk_at dksJ29_indexOf_1 12 rfl rfl)
def dkwJ29_canEncode_0 : List UInt8 := [26, 155, 0, 14, 26, 17, 0, 255, 163, 0, 7, 4, 167, 0, 4, 3, 172]
abbrev dktJ29_canEncode_0 : List UInt8 := dkwJ29_canEncode_0 ++ []
theorem dksJ29_canEncode_0 : cJ29_canEncode.data.toList.drop 0 = dktJ29_canEncode_0 := by decide +kernel
theorem dJ29_canEncode_0 : decode cJ29_canEncode 0 = .ok (.iload_n 0, 1) := dk_26 (dk_at dksJ29_canEncode_0 0 rfl rfl)
theorem dJ29_canEncode_1 : decode cJ29_canEncode 1 = .ok (.ifCond .lt 14, 3) := dk_155 0 14 (dk_at dksJ29_canEncode_0 1 rfl rfl)
theorem dJ29_canEncode_4 : decode cJ29_canEncode 4 = .ok (.iload_n 0, 1) := dk_26 (dk_at dksJ29_canEncode_0 4 rfl rfl)
theorem dJ29_canEncode_5 : decode cJ29_canEncode 5 = .ok (.sipush 255, 3) := dk_17 0 255 (dk_at dksJ29_canEncode_0 5 rfl rfl)
theorem dJ29_canEncode_8 : decode cJ29_canEncode 8 = .ok (.if_icmp .gt 7, 3) := dk_163 0 7 (dk_at dksJ29_canEncode_0 8 rfl rfl)
theorem dJ29_canEncode_11 : decode cJ29_canEncode 11 = .ok (.iconst 1, 1) := dk_4 (dk_at dksJ29_canEncode_0 11 rfl rfl)
theorem dJ29_canEncode_12 : decode cJ29_canEncode 12 = .ok (.goto 4, 3) := dk_167 0 4 (dk_at dksJ29_canEncode_0 12 rfl rfl)
theorem dJ29_canEncode_15 : decode cJ29_canEncode 15 = .ok (.iconst 0, 1) := dk_3 (dk_at dksJ29_canEncode_0 15 rfl rfl)
theorem dJ29_canEncode_16 : decode cJ29_canEncode 16 = .ok (.ireturn, 1) := dk_172 (dk_at dksJ29_canEncode_0 16 rfl rfl)
def dkwJ29_indexOfChar_1 : List UInt8 := [172, 132, 5, 1, 167, 255, 235, 2, 172]
abbrev dktJ29_indexOfChar_1 : List UInt8 := dkwJ29_indexOfChar_1 ++ []
def dkwJ29_indexOfChar_0 : List UInt8 := [27, 145, 54, 4, 28, 54, 5, 21, 5, 29, 162, 0, 21, 42, 21, 5, 51, 21, 4, 160, 0, 6, 21, 5]
abbrev dktJ29_indexOfChar_0 : List UInt8 := dkwJ29_indexOfChar_0 ++ dktJ29_indexOfChar_1
theorem dksJ29_indexOfChar_0 : cJ29_indexOfChar.data.toList.drop 0 = dktJ29_indexOfChar_0 := by decide +kernel
theorem dksJ29_indexOfChar_1 : cJ29_indexOfChar.data.toList.drop 24 = dktJ29_indexOfChar_1 := dk_seg dksJ29_indexOfChar_0 24 rfl rfl
theorem dJ29_indexOfChar_0 : decode cJ29_indexOfChar 0 = .ok (.iload_n 1, 1) := dk_27 (dk_at dksJ29_indexOfChar_0 0 rfl rfl)
theorem dJ29_indexOfChar_1 : decode cJ29_indexOfChar 1 = .ok (.i2b, 1) := dk_145 (dk_at dksJ29_indexOfChar_0 1 rfl rfl)
theorem dJ29_indexOfChar_2 : decode cJ29_indexOfChar 2 = .ok (.istore 4, 2) := dk_54 4 (dk_at dksJ29_indexOfChar_0 2 rfl rfl)
theorem dJ29_indexOfChar_4 : decode cJ29_indexOfChar 4 = .ok (.iload_n 2, 1) := dk_28 (dk_at dksJ29_indexOfChar_0 4 rfl rfl)
theorem dJ29_indexOfChar_5 : decode cJ29_indexOfChar 5 = .ok (.istore 5, 2) := dk_54 5 (dk_at dksJ29_indexOfChar_0 5 rfl rfl)
theorem dJ29_indexOfChar_7 : decode cJ29_indexOfChar 7 = .ok (.iload 5, 2) := dk_21 5 (dk_at dksJ29_indexOfChar_0 7 rfl rfl)
theorem dJ29_indexOfChar_9 : decode cJ29_indexOfChar 9 = .ok (.iload_n 3, 1) := dk_29 (dk_at dksJ29_indexOfChar_0 9 rfl rfl)
theorem dJ29_indexOfChar_10 : decode cJ29_indexOfChar 10 = .ok (.if_icmp .ge 21, 3) := dk_162 0 21 (dk_at dksJ29_indexOfChar_0 10 rfl rfl)
theorem dJ29_indexOfChar_13 : decode cJ29_indexOfChar 13 = .ok (.aload_n 0, 1) := dk_42 (dk_at dksJ29_indexOfChar_0 13 rfl rfl)
theorem dJ29_indexOfChar_14 : decode cJ29_indexOfChar 14 = .ok (.iload 5, 2) := dk_21 5 (dk_at dksJ29_indexOfChar_0 14 rfl rfl)
theorem dJ29_indexOfChar_16 : decode cJ29_indexOfChar 16 = .ok (.baload, 1) := dk_51 (dk_at dksJ29_indexOfChar_0 16 rfl rfl)
theorem dJ29_indexOfChar_17 : decode cJ29_indexOfChar 17 = .ok (.iload 4, 2) := dk_21 4 (dk_at dksJ29_indexOfChar_0 17 rfl rfl)
theorem dJ29_indexOfChar_19 : decode cJ29_indexOfChar 19 = .ok (.if_icmp .ne 6, 3) := dk_160 0 6 (dk_at dksJ29_indexOfChar_0 19 rfl rfl)
theorem dJ29_indexOfChar_22 : decode cJ29_indexOfChar 22 = .ok (.iload 5, 2) := dk_21 5 (dk_at dksJ29_indexOfChar_0 22 rfl rfl)
theorem dJ29_indexOfChar_24 : decode cJ29_indexOfChar 24 = .ok (.ireturn, 1) := dk_172 (dk_at dksJ29_indexOfChar_1 0 rfl rfl)
theorem dJ29_indexOfChar_25 : decode cJ29_indexOfChar 25 = .ok (.iinc 5 1, 3) := dk_132 5 1 (dk_at dksJ29_indexOfChar_1 1 rfl rfl)
theorem dJ29_indexOfChar_28 : decode cJ29_indexOfChar 28 = .ok (.goto (-21), 3) := dk_167 255 235 (dk_at dksJ29_indexOfChar_1 4 rfl rfl)
theorem dJ29_indexOfChar_31 : decode cJ29_indexOfChar 31 = .ok (.iconst (-1), 1) := dk_2 (dk_at dksJ29_indexOfChar_1 7 rfl rfl)
theorem dJ29_indexOfChar_32 : decode cJ29_indexOfChar 32 = .ok (.ireturn, 1) := dk_172 (dk_at dksJ29_indexOfChar_1 8 rfl rfl)
def dkwJ30_toArray_0 : List UInt8 := [42, 18, 188, 182, 0, 189, 176]
abbrev dktJ30_toArray_0 : List UInt8 := dkwJ30_toArray_0 ++ []
theorem dksJ30_toArray_0 : cJ30_toArray.data.toList.drop 0 = dktJ30_toArray_0 := by decide +kernel
theorem dJ30_toArray_0 : decode cJ30_toArray 0 = .ok (.aload_n 0, 1) := dk_42 (dk_at dksJ30_toArray_0 0 rfl rfl)
theorem dJ30_toArray_1 : decode cJ30_toArray 1 = .ok (.ldc 188, 2) := dk_18 188 (dk_at dksJ30_toArray_0 1 rfl rfl)
theorem dJ30_toArray_3 : decode cJ30_toArray 3 = .ok (.invokevirtual 189, 3) := dk_182 0 189 (dk_at dksJ30_toArray_0 3 rfl rfl)
theorem dJ30_toArray_6 : decode cJ30_toArray 6 = .ok (.areturn, 1) := dk_176 (dk_at dksJ30_toArray_0 6 rfl rfl)
def dkwJ30_toArray_2_4 : List UInt8 := [21, 5, 184, 0, 27, 45, 176]
abbrev dktJ30_toArray_2_4 : List UInt8 := dkwJ30_toArray_2_4 ++ []
def dkwJ30_toArray_2_3 : List UInt8 := [44, 190, 21, 4, 100, 184, 0, 27, 21, 6, 21, 5, 159, 0, 16, 44, 3, 45, 44, 190, 21, 4, 100]
abbrev dktJ30_toArray_2_3 : List UInt8 := dkwJ30_toArray_2_3 ++ dktJ30_toArray_2_4
def dkwJ30_toArray_2_2 : List UInt8 := [184, 0, 193, 78, 167, 0, 28, 44, 3, 21, 6, 21, 4, 100, 43, 184, 0, 193, 78, 44, 21, 4, 45, 3]
abbrev dktJ30_toArray_2_2 : List UInt8 := dkwJ30_toArray_2_2 ++ dktJ30_toArray_2_3
def dkwJ30_toArray_2_1 : List UInt8 := [163, 0, 7, 3, 167, 0, 5, 44, 190, 96, 89, 54, 6, 155, 0, 16, 44, 21, 4, 21, 6, 43]
abbrev dktJ30_toArray_2_1 : List UInt8 := dkwJ30_toArray_2_1 ++ dktJ30_toArray_2_2
def dkwJ30_toArray_2_0 : List UInt8 := [42, 180, 0, 3, 77, 42, 180, 0, 24, 54, 4, 42, 180, 0, 20, 54, 5, 21, 5, 21, 4, 21, 5]
abbrev dktJ30_toArray_2_0 : List UInt8 := dkwJ30_toArray_2_0 ++ dktJ30_toArray_2_1
theorem dksJ30_toArray_2_0 : cJ30_toArray_2.data.toList.drop 0 = dktJ30_toArray_2_0 := by decide +kernel
theorem dksJ30_toArray_2_1 : cJ30_toArray_2.data.toList.drop 23 = dktJ30_toArray_2_1 := dk_seg dksJ30_toArray_2_0 23 rfl rfl
theorem dksJ30_toArray_2_2 : cJ30_toArray_2.data.toList.drop 45 = dktJ30_toArray_2_2 := dk_seg dksJ30_toArray_2_1 22 rfl rfl
theorem dksJ30_toArray_2_3 : cJ30_toArray_2.data.toList.drop 69 = dktJ30_toArray_2_3 := dk_seg dksJ30_toArray_2_2 24 rfl rfl
theorem dksJ30_toArray_2_4 : cJ30_toArray_2.data.toList.drop 92 = dktJ30_toArray_2_4 := dk_seg dksJ30_toArray_2_3 23 rfl rfl
theorem dJ30_toArray_2_0 : decode cJ30_toArray_2 0 = .ok (.aload_n 0, 1) := dk_42 (dk_at dksJ30_toArray_2_0 0 rfl rfl)
theorem dJ30_toArray_2_1 : decode cJ30_toArray_2 1 = .ok (.getfield 3, 3) := dk_180 0 3 (dk_at dksJ30_toArray_2_0 1 rfl rfl)
theorem dJ30_toArray_2_4 : decode cJ30_toArray_2 4 = .ok (.astore_n 2, 1) := dk_77 (dk_at dksJ30_toArray_2_0 4 rfl rfl)
theorem dJ30_toArray_2_5 : decode cJ30_toArray_2 5 = .ok (.aload_n 0, 1) := dk_42 (dk_at dksJ30_toArray_2_0 5 rfl rfl)
theorem dJ30_toArray_2_6 : decode cJ30_toArray_2 6 = .ok (.getfield 24, 3) := dk_180 0 24 (dk_at dksJ30_toArray_2_0 6 rfl rfl)
theorem dJ30_toArray_2_9 : decode cJ30_toArray_2 9 = .ok (.istore 4, 2) := dk_54 4 (dk_at dksJ30_toArray_2_0 9 rfl rfl)
theorem dJ30_toArray_2_11 : decode cJ30_toArray_2 11 = .ok (.aload_n 0, 1) := dk_42 (dk_at dksJ30_toArray_2_0 11 rfl rfl)
theorem dJ30_toArray_2_12 : decode cJ30_toArray_2 12 = .ok (.getfield 20, 3) := dk_180 0 20 (dk_at dksJ30_toArray_2_0 12 rfl rfl)
theorem dJ30_toArray_2_15 : decode cJ30_toArray_2 15 = .ok (.istore 5, 2) := dk_54 5 (dk_at dksJ30_toArray_2_0 15 rfl rfl)
theorem dJ30_toArray_2_17 : decode cJ30_toArray_2 17 = .ok (.iload 5, 2) := dk_21 5 (dk_at dksJ30_toArray_2_0 17 rfl rfl)
theorem dJ30_toArray_2_19 : decode cJ30_toArray_2 19 = .ok (.iload 4, 2) := dk_21 4 (dk_at dksJ30_toArray_2_0 19 rfl rfl)
theorem dJ30_toArray_2_21 : decode cJ30_toArray_2 21 = .ok (.iload 5, 2) := dk_21 5 (dk_at dksJ30_toArray_2_0 21 rfl rfl)
theorem dJ30_toArray_2_23 : decode cJ30_toArray_2 23 = .ok (.if_icmp .gt 7, 3) := dk_163 0 7 (dk_at dksJ30_toArray_2_1 0 rfl rfl)
theorem dJ30_toArray_2_26 : decode cJ30_toArray_2 26 = .ok (.iconst 0, 1) := dk_3 (dk_at dksJ30_toArray_2_1 3 rfl rfl)
theorem dJ30_toArray_2_27 : decode cJ30_toArray_2 27 = .ok (.goto 5, 3) := dk_167 0 5 (dk_at dksJ30_toArray_2_1 4 rfl rfl)
theorem dJ30_toArray_2_30 : decode cJ30_toArray_2 30 = .ok (.aload_n 2, 1) := dk_44 (dk_at dksJ30_toArray_2_1 7 rfl rfl)
theorem dJ30_toArray_2_31 : decode cJ30_toArray_2 31 = .ok (.arraylength, 1) := dk_190 (dk_at dksJ30_toArray_2_1 8 rfl rfl)
theorem dJ30_toArray_2_32 : decode cJ30_toArray_2 32 = .ok (.iadd, 1) := dk_96 (dk_at dksJ30_toArray_2_1 9 rfl rfl)
theorem dJ30_toArray_2_33 : decode cJ30_toArray_2 33 = .ok (.dup, 1) := dk_89 (dk_at dksJ30_toArray_2_1 10 rfl rfl)
theorem dJ30_toArray_2_34 : decode cJ30_toArray_2 34 = .ok (.istore 6, 2) := dk_54 6 (dk_at dksJ30_toArray_2_1 11 rfl rfl)
theorem dJ30_toArray_2_36 : decode cJ30_toArray_2 36 = .ok (.ifCond .lt 16, 3) := dk_155 0 16 (dk_at dksJ30_toArray_2_1 13 rfl rfl)
theorem dJ30_toArray_2_39 : decode cJ30_toArray_2 39 = .ok (.aload_n 2, 1) := dk_44 (dk_at dksJ30_toArray_2_1 16 rfl rfl)
theorem dJ30_toArray_2_40 : decode cJ30_toArray_2 40 = .ok (.iload 4, 2) := dk_21 4 (dk_at dksJ30_toArray_2_1 17 rfl rfl)
theorem dJ30_toArray_2_42 : decode cJ30_toArray_2 42 = .ok (.iload 6, 2) := dk_21 6 (dk_at dksJ30_toArray_2_1 19 rfl rfl)
theorem dJ30_toArray_2_44 : decode cJ30_toArray_2 44 = .ok (.aload_n 1, 1) := dk_43 (dk_at dksJ30_toArray_2_1 21 rfl rfl)
theorem dJ30_toArray_2_45 : decode cJ30_toArray_2 45 = .ok (.invokestatic 193, 3) := dk_184 0 193 (dk_at dksJ30_toArray_2_2 0 rfl rfl)
theorem dJ30_toArray_2_48 : decode cJ30_toArray_2 48 = .ok (.astore_n 3, 1) := dk_78 (dk_at dksJ30_toArray_2_2 3 rfl rfl)
theorem dJ30_toArray_2_49 : decode cJ30_toArray_2 49 = .ok (.goto 28, 3) := dk_167 0 28 (dk_at dksJ30_toArray_2_2 4 rfl rfl)
theorem dJ30_toArray_2_52 : decode cJ30_toArray_2 52 = .ok (.aload_n 2, 1) := dk_44 (dk_at dksJ30_toArray_2_2 7 rfl rfl)
theorem dJ30_toArray_2_53 : decode cJ30_toArray_2 53 = .ok (.iconst 0, 1) := dk_3 (dk_at dksJ30_toArray_2_2 8 rfl rfl)
theorem dJ30_toArray_2_54 : decode cJ30_toArray_2 54 = .ok (.iload 6, 2) := dk_21 6 (dk_at dksJ30_toArray_2_2 9 rfl rfl)
theorem dJ30_toArray_2_56 : decode cJ30_toArray_2 56 = .ok (.iload 4, 2) := dk_21 4 (dk_at dksJ30_toArray_2_2 11 rfl rfl)
theorem dJ30_toArray_2_58 : decode cJ30_toArray_2 58 = .ok (.isub, 1) := dk_100 (dk_at dksJ30_toArray_2_2 13 rfl rfl)
theorem dJ30_toArray_2_59 : decode cJ30_toArray_2 59 = .ok (.aload_n 1, 1) := dk_43 (dk_at dksJ30_toArray_2_2 14 rfl rfl)
theorem dJ30_toArray_2_60 : decode cJ30_toArray_2 60 = .ok (.invokestatic 193, 3) := dk_184 0 193 (dk_at dksJ30_toArray_2_2 15 rfl rfl)
theorem dJ30_toArray_2_63 : decode cJ30_toArray_2 63 = .ok (.astore_n 3, 1) := dk_78 (dk_at dksJ30_toArray_2_2 18 rfl rfl)
theorem dJ30_toArray_2_64 : decode cJ30_toArray_2 64 = .ok (.aload_n 2, 1) := dk_44 (dk_at dksJ30_toArray_2_2 19 rfl rfl)
theorem dJ30_toArray_2_65 : decode cJ30_toArray_2 65 = .ok (.iload 4, 2) := dk_21 4 (dk_at dksJ30_toArray_2_2 20 rfl rfl)
theorem dJ30_toArray_2_67 : decode cJ30_toArray_2 67 = .ok (.aload_n 3, 1) := dk_45 (dk_at dksJ30_toArray_2_2 22 rfl rfl)
theorem dJ30_toArray_2_68 : decode cJ30_toArray_2 68 = .ok (.iconst 0, 1) := dk_3 (dk_at dksJ30_toArray_2_2 23 rfl rfl)
theorem dJ30_toArray_2_69 : decode cJ30_toArray_2 69 = .ok (.aload_n 2, 1) := dk_44 (dk_at dksJ30_toArray_2_3 0 rfl rfl)
theorem dJ30_toArray_2_70 : decode cJ30_toArray_2 70 = .ok (.arraylength, 1) := dk_190 (dk_at dksJ30_toArray_2_3 1 rfl rfl)
theorem dJ30_toArray_2_71 : decode cJ30_toArray_2 71 = .ok (.iload 4, 2) := dk_21 4 (dk_at dksJ30_toArray_2_3 2 rfl rfl)
theorem dJ30_toArray_2_73 : decode cJ30_toArray_2 73 = .ok (.isub, 1) := dk_100 (dk_at dksJ30_toArray_2_3 4 rfl rfl)
theorem dJ30_toArray_2_74 : decode cJ30_toArray_2 74 = .ok (.invokestatic 27, 3) := dk_184 0 27 (dk_at dksJ30_toArray_2_3 5 rfl rfl)
theorem dJ30_toArray_2_77 : decode cJ30_toArray_2 77 = .ok (.iload 6, 2) := dk_21 6 (dk_at dksJ30_toArray_2_3 8 rfl rfl)
theorem dJ30_toArray_2_79 : decode cJ30_toArray_2 79 = .ok (.iload 5, 2) := dk_21 5 (dk_at dksJ30_toArray_2_3 10 rfl rfl)
theorem dJ30_toArray_2_81 : decode cJ30_toArray_2 81 = .ok (.if_icmp .eq 16, 3) := dk_159 0 16 (dk_at dksJ30_toArray_2_3 12 rfl rfl)
theorem dJ30_toArray_2_84 : decode cJ30_toArray_2 84 = .ok (.aload_n 2, 1) := dk_44 (dk_at dksJ30_toArray_2_3 15 rfl rfl)
theorem dJ30_toArray_2_85 : decode cJ30_toArray_2 85 = .ok (.iconst 0, 1) := dk_3 (dk_at dksJ30_toArray_2_3 16 rfl rfl)
theorem dJ30_toArray_2_86 : decode cJ30_toArray_2 86 = .ok (.aload_n 3, 1) := dk_45 (dk_at dksJ30_toArray_2_3 17 rfl rfl)
theorem dJ30_toArray_2_87 : decode cJ30_toArray_2 87 = .ok (.aload_n 2, 1) := dk_44 (dk_at dksJ30_toArray_2_3 18 rfl rfl)
theorem dJ30_toArray_2_88 : decode cJ30_toArray_2 88 = .ok (.arraylength, 1) := dk_190 (dk_at dksJ30_toArray_2_3 19 rfl rfl)
theorem dJ30_toArray_2_89 : decode cJ30_toArray_2 89 = .ok (.iload 4, 2) := dk_21 4 (dk_at dksJ30_toArray_2_3 20 rfl rfl)
theorem dJ30_toArray_2_91 : decode cJ30_toArray_2 91 = .ok (.isub, 1) := dk_100 (dk_at dksJ30_toArray_2_3 22 rfl rfl)
theorem dJ30_toArray_2_92 : decode cJ30_toArray_2 92 = .ok (.iload 5, 2) := dk_21 5 (dk_at dksJ30_toArray_2_4 0 rfl rfl)
theorem dJ30_toArray_2_94 : decode cJ30_toArray_2 94 = .ok (.invokestatic 27, 3) := dk_184 0 27 (dk_at dksJ30_toArray_2_4 2 rfl rfl)
theorem dJ30_toArray_2_97 : decode cJ30_toArray_2 97 = .ok (.aload_n 3, 1) := dk_45 (dk_at dksJ30_toArray_2_4 5 rfl rfl)
theorem dJ30_toArray_2_98 : decode cJ30_toArray_2 98 = .ok (.areturn, 1) := dk_176 (dk_at dksJ30_toArray_2_4 6 rfl rfl)
def dkwJ30_nonNullElementAt_0 : List UInt8 := [42, 27, 50, 77, 44, 199, 0, 11, 187, 0, 62, 89, 183, 0, 64, 191, 44, 176]
abbrev dktJ30_nonNullElementAt_0 : List UInt8 := dkwJ30_nonNullElementAt_0 ++ []
theorem dksJ30_nonNullElementAt_0 : cJ30_nonNullElementAt.data.toList.drop 0 = dktJ30_nonNullElementAt_0 := by decide +kernel
theorem dJ30_nonNullElementAt_0 : decode cJ30_nonNullElementAt 0 = .ok (.aload_n 0, 1) := dk_42 (dk_at dksJ30_nonNullElementAt_0 0 rfl rfl)
theorem dJ30_nonNullElementAt_1 : decode cJ30_nonNullElementAt 1 = .ok (.iload_n 1, 1) := dk_27 (dk_at dksJ30_nonNullElementAt_0 1 rfl rfl)
theorem dJ30_nonNullElementAt_2 : decode cJ30_nonNullElementAt 2 = .ok (.aaload, 1) := dk_50 (dk_at dksJ30_nonNullElementAt_0 2 rfl rfl)
theorem dJ30_nonNullElementAt_3 : decode cJ30_nonNullElementAt 3 = .ok (.astore_n 2, 1) := dk_77 (dk_at dksJ30_nonNullElementAt_0 3 rfl rfl)
theorem dJ30_nonNullElementAt_4 : decode cJ30_nonNullElementAt 4 = .ok (.aload_n 2, 1) := dk_44 (dk_at dksJ30_nonNullElementAt_0 4 rfl rfl)
theorem dJ30_nonNullElementAt_5 : decode cJ30_nonNullElementAt 5 = .ok (.ifnonnull 11, 3) := dk_199 0 11 (dk_at dksJ30_nonNullElementAt_0 5 rfl rfl)
theorem dJ30_nonNullElementAt_8 : decode cJ30_nonNullElementAt 8 = .ok (.new 62, 3) := dk_187 0 62 (dk_at dksJ30_nonNullElementAt_0 8 rfl rfl)
theorem dJ30_nonNullElementAt_11 : decode cJ30_nonNullElementAt 11 = .ok (.dup, 1) := dk_89 (dk_at dksJ30_nonNullElementAt_0 11 rfl rfl)
theorem dJ30_nonNullElementAt_12 : decode cJ30_nonNullElementAt 12 = .ok (.invokespecial 64, 3) := dk_183 0 64 (dk_at dksJ30_nonNullElementAt_0 12 rfl rfl)
theorem dJ30_nonNullElementAt_15 : decode cJ30_nonNullElementAt 15 = .ok (.athrow, 1) := dk_191 (dk_at dksJ30_nonNullElementAt_0 15 rfl rfl)
theorem dJ30_nonNullElementAt_16 : decode cJ30_nonNullElementAt 16 = .ok (.aload_n 2, 1) := dk_44 (dk_at dksJ30_nonNullElementAt_0 16 rfl rfl)
theorem dJ30_nonNullElementAt_17 : decode cJ30_nonNullElementAt 17 = .ok (.areturn, 1) := dk_176 (dk_at dksJ30_nonNullElementAt_0 17 rfl rfl)
def dkwJ30_inc_0 : List UInt8 := [132, 0, 1, 26, 27, 161, 0, 5, 3, 59, 26, 172]
abbrev dktJ30_inc_0 : List UInt8 := dkwJ30_inc_0 ++ []
theorem dksJ30_inc_0 : cJ30_inc.data.toList.drop 0 = dktJ30_inc_0 := by decide +kernel
theorem dJ30_inc_0 : decode cJ30_inc 0 = .ok (.iinc 0 1, 3) := dk_132 0 1 (dk_at dksJ30_inc_0 0 rfl rfl)
theorem dJ30_inc_3 : decode cJ30_inc 3 = .ok (.iload_n 0, 1) := dk_26 (dk_at dksJ30_inc_0 3 rfl rfl)
theorem dJ30_inc_4 : decode cJ30_inc 4 = .ok (.iload_n 1, 1) := dk_27 (dk_at dksJ30_inc_0 4 rfl rfl)
theorem dJ30_inc_5 : decode cJ30_inc 5 = .ok (.if_icmp .lt 5, 3) := dk_161 0 5 (dk_at dksJ30_inc_0 5 rfl rfl)
theorem dJ30_inc_8 : decode cJ30_inc 8 = .ok (.iconst 0, 1) := dk_3 (dk_at dksJ30_inc_0 8 rfl rfl)
theorem dJ30_inc_9 : decode cJ30_inc 9 = .ok (.istore_n 0, 1) := dk_59 (dk_at dksJ30_inc_0 9 rfl rfl)
theorem dJ30_inc_10 : decode cJ30_inc 10 = .ok (.iload_n 0, 1) := dk_26 (dk_at dksJ30_inc_0 10 rfl rfl)
theorem dJ30_inc_11 : decode cJ30_inc 11 = .ok (.ireturn, 1) := dk_172 (dk_at dksJ30_inc_0 11 rfl rfl)
def dkwJ30_init_0 : List UInt8 := [42, 183, 0, 42, 42, 16, 17, 189, 0, 47, 181, 0, 3, 177]
abbrev dktJ30_init_0 : List UInt8 := dkwJ30_init_0 ++ []
theorem dksJ30_init_0 : cJ30_init.data.toList.drop 0 = dktJ30_init_0 := by decide +kernel
theorem dJ30_init_0 : decode cJ30_init 0 = .ok (.aload_n 0, 1) := dk_42 (dk_at dksJ30_init_0 0 rfl rfl)
theorem dJ30_init_1 : decode cJ30_init 1 = .ok (.invokespecial 42, 3) := dk_183 0 42 (dk_at dksJ30_init_0 1 rfl rfl)
theorem dJ30_init_4 : decode cJ30_init 4 = .ok (.aload_n 0, 1) := dk_42 (dk_at dksJ30_init_0 4 rfl rfl)
theorem dJ30_init_5 : decode cJ30_init 5 = .ok (.bipush 17, 2) := dk_16 17 (dk_at dksJ30_init_0 5 rfl rfl)
theorem dJ30_init_7 : decode cJ30_init 7 = .ok (.anewarray 47, 3) := dk_189 0 47 (dk_at dksJ30_init_0 7 rfl rfl)
theorem dJ30_init_10 : decode cJ30_init 10 = .ok (.putfield 3, 3) := dk_181 0 3 (dk_at dksJ30_init_0 10 rfl rfl)
theorem dJ30_init_13 : decode cJ30_init 13 = .ok (.return_, 1) := dk_177 (dk_at dksJ30_init_0 13 rfl rfl)
def dkwJ30_push_0 : List UInt8 := [42, 43, 182, 0, 86, 177]
abbrev dktJ30_push_0 : List UInt8 := dkwJ30_push_0 ++ []
theorem dksJ30_push_0 : cJ30_push.data.toList.drop 0 = dktJ30_push_0 := by decide +kernel
theorem dJ30_push_0 : decode cJ30_push 0 = .ok (.aload_n 0, 1) := dk_42 (dk_at dksJ30_push_0 0 rfl rfl)
theorem dJ30_push_1 : decode cJ30_push 1 = .ok (.aload_n 1, 1) := dk_43 (dk_at dksJ30_push_0 1 rfl rfl)
theorem dJ30_push_2 : decode cJ30_push 2 = .ok (.invokevirtual 86, 3) := dk_182 0 86 (dk_at dksJ30_push_0 2 rfl rfl)
theorem dJ30_push_5 : decode cJ30_push 5 = .ok (.return_, 1) := dk_177 (dk_at dksJ30_push_0 5 rfl rfl)
def dkwJ30_addFirst_2 : List UInt8 := [182, 0, 71, 177]
abbrev dktJ30_addFirst_2 : List UInt8 := dkwJ30_addFirst_2 ++ []
def dkwJ30_addFirst_1 : List UInt8 := [190, 184, 0, 68, 90, 181, 0, 24, 43, 83, 42, 180, 0, 24, 42, 180, 0, 20, 160, 0, 8, 42, 4]
abbrev dktJ30_addFirst_1 : List UInt8 := dkwJ30_addFirst_1 ++ dktJ30_addFirst_2
def dkwJ30_addFirst_0 : List UInt8 := [43, 199, 0, 11, 187, 0, 65, 89, 183, 0, 67, 191, 42, 180, 0, 3, 77, 44, 42, 42, 180, 0, 24, 44]
abbrev dktJ30_addFirst_0 : List UInt8 := dkwJ30_addFirst_0 ++ dktJ30_addFirst_1
theorem dksJ30_addFirst_0 : cJ30_addFirst.data.toList.drop 0 = dktJ30_addFirst_0 := by decide +kernel
theorem dksJ30_addFirst_1 : cJ30_addFirst.data.toList.drop 24 = dktJ30_addFirst_1 := dk_seg dksJ30_addFirst_0 24 rfl rfl
theorem dksJ30_addFirst_2 : cJ30_addFirst.data.toList.drop 47 = dktJ30_addFirst_2 := dk_seg dksJ30_addFirst_1 23 rfl rfl
theorem dJ30_addFirst_0 : decode cJ30_addFirst 0 = .ok (.aload_n 1, 1) := dk_43 (dk_at dksJ30_addFirst_0 0 rfl rfl)
theorem dJ30_addFirst_1 : decode cJ30_addFirst 1 = .ok (.ifnonnull 11, 3) := dk_199 0 11 (dk_at dksJ30_addFirst_0 1 rfl rfl)
theorem dJ30_addFirst_4 : decode cJ30_addFirst 4 = .ok (.new 65, 3) := dk_187 0 65 (dk_at dksJ30_addFirst_0 4 rfl rfl)
theorem dJ30_addFirst_7 : decode cJ30_addFirst 7 = .ok (.dup, 1) := dk_89 (dk_at dksJ30_addFirst_0 7 rfl rfl)
theorem dJ30_addFirst_8 : decode cJ30_addFirst 8 = .ok (.invokespecial 67, 3) := dk_183 0 67 (dk_at dksJ30_addFirst_0 8 rfl rfl)
theorem dJ30_addFirst_11 : decode cJ30_addFirst 11 = .ok (.athrow, 1) := dk_191 (dk_at dksJ30_addFirst_0 11 rfl rfl)
theorem dJ30_addFirst_12 : decode cJ30_addFirst 12 = .ok (.aload_n 0, 1) := dk_42 (dk_at dksJ30_addFirst_0 12 rfl rfl)
theorem dJ30_addFirst_13 : decode cJ30_addFirst 13 = .ok (.getfield 3, 3) := dk_180 0 3 (dk_at dksJ30_addFirst_0 13 rfl rfl)
theorem dJ30_addFirst_16 : decode cJ30_addFirst 16 = .ok (.astore_n 2, 1) := dk_77 (dk_at dksJ30_addFirst_0 16 rfl rfl)
theorem dJ30_addFirst_17 : decode cJ30_addFirst 17 = .ok (.aload_n 2, 1) := dk_44 (dk_at dksJ30_addFirst_0 17 rfl rfl)
theorem dJ30_addFirst_18 : decode cJ30_addFirst 18 = .ok (.aload_n 0, 1) := dk_42 (dk_at dksJ30_addFirst_0 18 rfl rfl)
theorem dJ30_addFirst_19 : decode cJ30_addFirst 19 = .ok (.aload_n 0, 1) := dk_42 (dk_at dksJ30_addFirst_0 19 rfl rfl)
theorem dJ30_addFirst_20 : decode cJ30_addFirst 20 = .ok (.getfield 24, 3) := dk_180 0 24 (dk_at dksJ30_addFirst_0 20 rfl rfl)
theorem dJ30_addFirst_23 : decode cJ30_addFirst 23 = .ok (.aload_n 2, 1) := dk_44 (dk_at dksJ30_addFirst_0 23 rfl rfl)
theorem dJ30_addFirst_24 : decode cJ30_addFirst 24 = .ok (.arraylength, 1) := dk_190 (dk_at dksJ30_addFirst_1 0 rfl rfl)
theorem dJ30_addFirst_25 : decode cJ30_addFirst 25 = .ok (.invokestatic 68, 3) := dk_184 0 68 (dk_at dksJ30_addFirst_1 1 rfl rfl)
theorem dJ30_addFirst_28 : decode cJ30_addFirst 28 = .ok (.dup_x1, 1) := dk_90 (dk_at dksJ30_addFirst_1 4 rfl rfl)
theorem dJ30_addFirst_29 : decode cJ30_addFirst 29 = .ok (.putfield 24, 3) := dk_181 0 24 (dk_at dksJ30_addFirst_1 5 rfl rfl)
theorem dJ30_addFirst_32 : decode cJ30_addFirst 32 = .ok (.aload_n 1, 1) := dk_43 (dk_at dksJ30_addFirst_1 8 rfl rfl)
theorem dJ30_addFirst_33 : decode cJ30_addFirst 33 = .ok (.aastore, 1) := dk_83 (dk_at dksJ30_addFirst_1 9 rfl rfl)
theorem dJ30_addFirst_34 : decode cJ30_addFirst 34 = .ok (.aload_n 0, 1) := dk_42 (dk_at dksJ30_addFirst_1 10 rfl rfl)
theorem dJ30_addFirst_35 : decode cJ30_addFirst 35 = .ok (.getfield 24, 3) := dk_180 0 24 (dk_at dksJ30_addFirst_1 11 rfl rfl)
theorem dJ30_addFirst_38 : decode cJ30_addFirst 38 = .ok (.aload_n 0, 1) := dk_42 (dk_at dksJ30_addFirst_1 14 rfl rfl)
theorem dJ30_addFirst_39 : decode cJ30_addFirst 39 = .ok (.getfield 20, 3) := dk_180 0 20 (dk_at dksJ30_addFirst_1 15 rfl rfl)
theorem dJ30_addFirst_42 : decode cJ30_addFirst 42 = .ok (.if_icmp .ne 8, 3) := dk_160 0 8 (dk_at dksJ30_addFirst_1 18 rfl rfl)
theorem dJ30_addFirst_45 : decode cJ30_addFirst 45 = .ok (.aload_n 0, 1) := dk_42 (dk_at dksJ30_addFirst_1 21 rfl rfl)
theorem dJ30_addFirst_46 : decode cJ30_addFirst 46 = .ok (.iconst 1, 1) := dk_4 (dk_at dksJ30_addFirst_1 22 rfl rfl)
theorem dJ30_addFirst_47 : decode cJ30_addFirst 47 = .ok (.invokevirtual 71, 3) := dk_182 0 71 (dk_at dksJ30_addFirst_2 0 rfl rfl)
theorem dJ30_addFirst_50 : decode cJ30_addFirst 50 = .ok (.return_, 1) := dk_177 (dk_at dksJ30_addFirst_2 3 rfl rfl)
def dkwJ30_dec_0 : List UInt8 := [132, 0, 255, 26, 156, 0, 7, 27, 4, 100, 59, 26, 172]
abbrev dktJ30_dec_0 : List UInt8 := dkwJ30_dec_0 ++ []
theorem dksJ30_dec_0 : cJ30_dec.data.toList.drop 0 = dktJ30_dec_0 := by decide +kernel
theorem dJ30_dec_0 : decode cJ30_dec 0 = .ok (.iinc 0 (-1), 3) := dk_132 0 255 (dk_at dksJ30_dec_0 0 rfl rfl)
theorem dJ30_dec_3 : decode cJ30_dec 3 = .ok (.iload_n 0, 1) := dk_26 (dk_at dksJ30_dec_0 3 rfl rfl)
theorem dJ30_dec_4 : decode cJ30_dec 4 = .ok (.ifCond .ge 7, 3) := dk_156 0 7 (dk_at dksJ30_dec_0 4 rfl rfl)
theorem dJ30_dec_7 : decode cJ30_dec 7 = .ok (.iload_n 1, 1) := dk_27 (dk_at dksJ30_dec_0 7 rfl rfl)
theorem dJ30_dec_8 : decode cJ30_dec 8 = .ok (.iconst 1, 1) := dk_4 (dk_at dksJ30_dec_0 8 rfl rfl)
theorem dJ30_dec_9 : decode cJ30_dec 9 = .ok (.isub, 1) := dk_100 (dk_at dksJ30_dec_0 9 rfl rfl)
theorem dJ30_dec_10 : decode cJ30_dec 10 = .ok (.istore_n 0, 1) := dk_59 (dk_at dksJ30_dec_0 10 rfl rfl)
theorem dJ30_dec_11 : decode cJ30_dec 11 = .ok (.iload_n 0, 1) := dk_26 (dk_at dksJ30_dec_0 11 rfl rfl)
theorem dJ30_dec_12 : decode cJ30_dec 12 = .ok (.ireturn, 1) := dk_172 (dk_at dksJ30_dec_0 12 rfl rfl)
def dkwJ30_grow_7 : List UInt8 := [177]
abbrev dktJ30_grow_7 : List UInt8 := dkwJ30_grow_7 ++ []
def dkwJ30_grow_6 : List UInt8 := [181, 0, 24, 54, 8, 21, 7, 21, 8, 162, 0, 15, 25, 5, 21, 7, 1, 83, 132, 7, 1, 167, 255, 240]
abbrev dktJ30_grow_6 : List UInt8 := dkwJ30_grow_6 ++ dktJ30_grow_7
def dkwJ30_grow_5 : List UInt8 := [42, 180, 0, 24, 100, 184, 0, 27, 42, 180, 0, 24, 54, 7, 42, 89, 180, 0, 24, 21, 6, 96, 90]
abbrev dktJ30_grow_5 : List UInt8 := dkwJ30_grow_5 ++ dktJ30_grow_6
def dkwJ30_grow_4 : List UInt8 := [198, 0, 71, 29, 28, 100, 54, 6, 25, 5, 42, 180, 0, 24, 25, 5, 42, 180, 0, 24, 21, 6, 96, 28]
abbrev dktJ30_grow_4 : List UInt8 := dkwJ30_grow_4 ++ dktJ30_grow_5
def dkwJ30_grow_3 : List UInt8 := [180, 0, 24, 161, 0, 24, 42, 180, 0, 20, 42, 180, 0, 24, 160, 0, 81, 25, 5, 42, 180, 0, 24, 50]
abbrev dktJ30_grow_3 : List UInt8 := dkwJ30_grow_3 ++ dktJ30_grow_4
def dkwJ30_grow_2 : List UInt8 := [182, 0, 10, 62, 42, 42, 180, 0, 3, 29, 184, 0, 14, 90, 181, 0, 3, 58, 5, 42, 180, 0, 20, 42]
abbrev dktJ30_grow_2 : List UInt8 := dkwJ30_grow_2 ++ dktJ30_grow_3
def dkwJ30_grow_1 : List UInt8 := [21, 4, 27, 161, 0, 15, 28, 21, 4, 96, 89, 62, 18, 9, 100, 158, 0, 11, 42, 27, 21, 4]
abbrev dktJ30_grow_1 : List UInt8 := dkwJ30_grow_1 ++ dktJ30_grow_2
def dkwJ30_grow_0 : List UInt8 := [42, 180, 0, 3, 190, 61, 28, 16, 64, 162, 0, 9, 28, 5, 96, 167, 0, 6, 28, 4, 122, 54, 4]
abbrev dktJ30_grow_0 : List UInt8 := dkwJ30_grow_0 ++ dktJ30_grow_1
theorem dksJ30_grow_0 : cJ30_grow.data.toList.drop 0 = dktJ30_grow_0 := by decide +kernel
theorem dksJ30_grow_1 : cJ30_grow.data.toList.drop 23 = dktJ30_grow_1 := dk_seg dksJ30_grow_0 23 rfl rfl
theorem dksJ30_grow_2 : cJ30_grow.data.toList.drop 45 = dktJ30_grow_2 := dk_seg dksJ30_grow_1 22 rfl rfl
theorem dksJ30_grow_3 : cJ30_grow.data.toList.drop 69 = dktJ30_grow_3 := dk_seg dksJ30_grow_2 24 rfl rfl
theorem dksJ30_grow_4 : cJ30_grow.data.toList.drop 93 = dktJ30_grow_4 := dk_seg dksJ30_grow_3 24 rfl rfl
theorem dksJ30_grow_5 : cJ30_grow.data.toList.drop 117 = dktJ30_grow_5 := dk_seg dksJ30_grow_4 24 rfl rfl
theorem dksJ30_grow_6 : cJ30_grow.data.toList.drop 140 = dktJ30_grow_6 := dk_seg dksJ30_grow_5 23 rfl rfl
theorem dksJ30_grow_7 : cJ30_grow.data.toList.drop 164 = dktJ30_grow_7 := dk_seg dksJ30_grow_6 24 rfl rfl
theorem dJ30_grow_0 : decode cJ30_grow 0 = .ok (.aload_n 0, 1) := dk_42 (dk_at dksJ30_grow_0 0 rfl rfl)
theorem dJ30_grow_1 : decode cJ30_grow 1 = .ok (.getfield 3, 3) := dk_180 0 3 (dk_at dksJ30_grow_0 1 rfl rfl)
theorem dJ30_grow_4 : decode cJ30_grow 4 = .ok (.arraylength, 1) := dk_190 (dk_at dksJ30_grow_0 4 rfl rfl)
theorem dJ30_grow_5 : decode cJ30_grow 5 = .ok (.istore_n 2, 1) := dk_61 (dk_at dksJ30_grow_0 5 rfl rfl)
theorem dJ30_grow_6 : decode cJ30_grow 6 = .ok (.iload_n 2, 1) := dk_28 (dk_at dksJ30_grow_0 6 rfl rfl)
theorem dJ30_grow_7 : decode cJ30_grow 7 = .ok (.bipush 64, 2) := dk_16 64 (dk_at dksJ30_grow_0 7 rfl rfl)
theorem dJ30_grow_9 : decode cJ30_grow 9 = .ok (.if_icmp .ge 9, 3) := dk_162 0 9 (dk_at dksJ30_grow_0 9 rfl rfl)
theorem dJ30_grow_12 : decode cJ30_grow 12 = .ok (.iload_n 2, 1) := dk_28 (dk_at dksJ30_grow_0 12 rfl rfl)
theorem dJ30_grow_13 : decode cJ30_grow 13 = .ok (.iconst 2, 1) := dk_5 (dk_at dksJ30_grow_0 13 rfl rfl)
theorem dJ30_grow_14 : decode cJ30_grow 14 = .ok (.iadd, 1) := dk_96 (dk_at dksJ30_grow_0 14 rfl rfl)
theorem dJ30_grow_15 : decode cJ30_grow 15 = .ok (.goto 6, 3) := dk_167 0 6 (dk_at dksJ30_grow_0 15 rfl rfl)
theorem dJ30_grow_18 : decode cJ30_grow 18 = .ok (.iload_n 2, 1) := dk_28 (dk_at dksJ30_grow_0 18 rfl rfl)
theorem dJ30_grow_19 : decode cJ30_grow 19 = .ok (.iconst 1, 1) := dk_4 (dk_at dksJ30_grow_0 19 rfl rfl)
theorem dJ30_grow_20 : decode cJ30_grow 20 = .ok (.ishr, 1) := dk_122 (dk_at dksJ30_grow_0 20 rfl rfl)
theorem dJ30_grow_21 : decode cJ30_grow 21 = .ok (.istore 4, 2) := dk_54 4 (dk_at dksJ30_grow_0 21 rfl rfl)
theorem dJ30_grow_23 : decode cJ30_grow 23 = .ok (.iload 4, 2) := dk_21 4 (dk_at dksJ30_grow_1 0 rfl rfl)
theorem dJ30_grow_25 : decode cJ30_grow 25 = .ok (.iload_n 1, 1) := dk_27 (dk_at dksJ30_grow_1 2 rfl rfl)
theorem dJ30_grow_26 : decode cJ30_grow 26 = .ok (.if_icmp .lt 15, 3) := dk_161 0 15 (dk_at dksJ30_grow_1 3 rfl rfl)
theorem dJ30_grow_29 : decode cJ30_grow 29 = .ok (.iload_n 2, 1) := dk_28 (dk_at dksJ30_grow_1 6 rfl rfl)
theorem dJ30_grow_30 : decode cJ30_grow 30 = .ok (.iload 4, 2) := dk_21 4 (dk_at dksJ30_grow_1 7 rfl rfl)
theorem dJ30_grow_32 : decode cJ30_grow 32 = .ok (.iadd, 1) := dk_96 (dk_at dksJ30_grow_1 9 rfl rfl)
theorem dJ30_grow_33 : decode cJ30_grow 33 = .ok (.dup, 1) := dk_89 (dk_at dksJ30_grow_1 10 rfl rfl)
theorem dJ30_grow_34 : decode cJ30_grow 34 = .ok (.istore_n 3, 1) := dk_62 (dk_at dksJ30_grow_1 11 rfl rfl)
theorem dJ30_grow_35 : decode cJ30_grow 35 = .ok (.ldc 9, 2) := dk_18 9 (dk_at dksJ30_grow_1 12 rfl rfl)
theorem dJ30_grow_37 : decode cJ30_grow 37 = .ok (.isub, 1) := dk_100 (dk_at dksJ30_grow_1 14 rfl rfl)
theorem dJ30_grow_38 : decode cJ30_grow 38 = .ok (.ifCond .le 11, 3) := dk_158 0 11 (dk_at dksJ30_grow_1 15 rfl rfl)
theorem dJ30_grow_41 : decode cJ30_grow 41 = .ok (.aload_n 0, 1) := dk_42 (dk_at dksJ30_grow_1 18 rfl rfl)
theorem dJ30_grow_42 : decode cJ30_grow 42 = .ok (.iload_n 1, 1) := dk_27 (dk_at dksJ30_grow_1 19 rfl rfl)
theorem dJ30_grow_43 : decode cJ30_grow 43 = .ok (.iload 4, 2) := dk_21 4 (dk_at dksJ30_grow_1 20 rfl rfl)
theorem dJ30_grow_45 : decode cJ30_grow 45 = .ok (.invokevirtual 10, 3) := dk_182 0 10 (dk_at dksJ30_grow_2 0 rfl rfl)
theorem dJ30_grow_48 : decode cJ30_grow 48 = .ok (.istore_n 3, 1) := dk_62 (dk_at dksJ30_grow_2 3 rfl rfl)
theorem dJ30_grow_49 : decode cJ30_grow 49 = .ok (.aload_n 0, 1) := dk_42 (dk_at dksJ30_grow_2 4 rfl rfl)
theorem dJ30_grow_50 : decode cJ30_grow 50 = .ok (.aload_n 0, 1) := dk_42 (dk_at dksJ30_grow_2 5 rfl rfl)
theorem dJ30_grow_51 : decode cJ30_grow 51 = .ok (.getfield 3, 3) := dk_180 0 3 (dk_at dksJ30_grow_2 6 rfl rfl)
theorem dJ30_grow_54 : decode cJ30_grow 54 = .ok (.iload_n 3, 1) := dk_29 (dk_at dksJ30_grow_2 9 rfl rfl)
theorem dJ30_grow_55 : decode cJ30_grow 55 = .ok (.invokestatic 14, 3) := dk_184 0 14 (dk_at dksJ30_grow_2 10 rfl rfl)
theorem dJ30_grow_58 : decode cJ30_grow 58 = .ok (.dup_x1, 1) := dk_90 (dk_at dksJ30_grow_2 13 rfl rfl)
theorem dJ30_grow_59 : decode cJ30_grow 59 = .ok (.putfield 3, 3) := dk_181 0 3 (dk_at dksJ30_grow_2 14 rfl rfl)
theorem dJ30_grow_62 : decode cJ30_grow 62 = .ok (.astore 5, 2) := dk_58 5 (dk_at dksJ30_grow_2 17 rfl rfl)
theorem dJ30_grow_64 : decode cJ30_grow 64 = .ok (.aload_n 0, 1) := dk_42 (dk_at dksJ30_grow_2 19 rfl rfl)
theorem dJ30_grow_65 : decode cJ30_grow 65 = .ok (.getfield 20, 3) := dk_180 0 20 (dk_at dksJ30_grow_2 20 rfl rfl)
theorem dJ30_grow_68 : decode cJ30_grow 68 = .ok (.aload_n 0, 1) := dk_42 (dk_at dksJ30_grow_2 23 rfl rfl)
theorem dJ30_grow_69 : decode cJ30_grow 69 = .ok (.getfield 24, 3) := dk_180 0 24 (dk_at dksJ30_grow_3 0 rfl rfl)
theorem dJ30_grow_72 : decode cJ30_grow 72 = .ok (.if_icmp .lt 24, 3) := dk_161 0 24 (dk_at dksJ30_grow_3 3 rfl rfl)
theorem dJ30_grow_75 : decode cJ30_grow 75 = .ok (.aload_n 0, 1) := dk_42 (dk_at dksJ30_grow_3 6 rfl rfl)
theorem dJ30_grow_76 : decode cJ30_grow 76 = .ok (.getfield 20, 3) := dk_180 0 20 (dk_at dksJ30_grow_3 7 rfl rfl)
theorem dJ30_grow_79 : decode cJ30_grow 79 = .ok (.aload_n 0, 1) := dk_42 (dk_at dksJ30_grow_3 10 rfl rfl)
theorem dJ30_grow_80 : decode cJ30_grow 80 = .ok (.getfield 24, 3) := dk_180 0 24 (dk_at dksJ30_grow_3 11 rfl rfl)
theorem dJ30_grow_83 : decode cJ30_grow 83 = .ok (.if_icmp .ne 81, 3) := dk_160 0 81 (dk_at dksJ30_grow_3 14 rfl rfl)
theorem dJ30_grow_86 : decode cJ30_grow 86 = .ok (.aload 5, 2) := dk_25 5 (dk_at dksJ30_grow_3 17 rfl rfl)
theorem dJ30_grow_88 : decode cJ30_grow 88 = .ok (.aload_n 0, 1) := dk_42 (dk_at dksJ30_grow_3 19 rfl rfl)
theorem dJ30_grow_89 : decode cJ30_grow 89 = .ok (.getfield 24, 3) := dk_180 0 24 (dk_at dksJ30_grow_3 20 rfl rfl)
theorem dJ30_grow_92 : decode cJ30_grow 92 = .ok (.aaload, 1) := dk_50 (dk_at dksJ30_grow_3 23 rfl rfl)
theorem dJ30_grow_93 : decode cJ30_grow 93 = .ok (.ifnull 71, 3) := dk_198 0 71 (dk_at dksJ30_grow_4 0 rfl rfl)
theorem dJ30_grow_96 : decode cJ30_grow 96 = .ok (.iload_n 3, 1) := dk_29 (dk_at dksJ30_grow_4 3 rfl rfl)
theorem dJ30_grow_97 : decode cJ30_grow 97 = .ok (.iload_n 2, 1) := dk_28 (dk_at dksJ30_grow_4 4 rfl rfl)
theorem dJ30_grow_98 : decode cJ30_grow 98 = .ok (.isub, 1) := dk_100 (dk_at dksJ30_grow_4 5 rfl rfl)
theorem dJ30_grow_99 : decode cJ30_grow 99 = .ok (.istore 6, 2) := dk_54 6 (dk_at dksJ30_grow_4 6 rfl rfl)
theorem dJ30_grow_101 : decode cJ30_grow 101 = .ok (.aload 5, 2) := dk_25 5 (dk_at dksJ30_grow_4 8 rfl rfl)
theorem dJ30_grow_103 : decode cJ30_grow 103 = .ok (.aload_n 0, 1) := dk_42 (dk_at dksJ30_grow_4 10 rfl rfl)
theorem dJ30_grow_104 : decode cJ30_grow 104 = .ok (.getfield 24, 3) := dk_180 0 24 (dk_at dksJ30_grow_4 11 rfl rfl)
theorem dJ30_grow_107 : decode cJ30_grow 107 = .ok (.aload 5, 2) := dk_25 5 (dk_at dksJ30_grow_4 14 rfl rfl)
theorem dJ30_grow_109 : decode cJ30_grow 109 = .ok (.aload_n 0, 1) := dk_42 (dk_at dksJ30_grow_4 16 rfl rfl)
theorem dJ30_grow_110 : decode cJ30_grow 110 = .ok (.getfield 24, 3) := dk_180 0 24 (dk_at dksJ30_grow_4 17 rfl rfl)
theorem dJ30_grow_113 : decode cJ30_grow 113 = .ok (.iload 6, 2) := dk_21 6 (dk_at dksJ30_grow_4 20 rfl rfl)
theorem dJ30_grow_115 : decode cJ30_grow 115 = .ok (.iadd, 1) := dk_96 (dk_at dksJ30_grow_4 22 rfl rfl)
theorem dJ30_grow_116 : decode cJ30_grow 116 = .ok (.iload_n 2, 1) := dk_28 (dk_at dksJ30_grow_4 23 rfl rfl)
theorem dJ30_grow_117 : decode cJ30_grow 117 = .ok (.aload_n 0, 1) := dk_42 (dk_at dksJ30_grow_5 0 rfl rfl)
theorem dJ30_grow_118 : decode cJ30_grow 118 = .ok (.getfield 24, 3) := dk_180 0 24 (dk_at dksJ30_grow_5 1 rfl rfl)
theorem dJ30_grow_121 : decode cJ30_grow 121 = .ok (.isub, 1) := dk_100 (dk_at dksJ30_grow_5 4 rfl rfl)
theorem dJ30_grow_122 : decode cJ30_grow 122 = .ok (.invokestatic 27, 3) := dk_184 0 27 (dk_at dksJ30_grow_5 5 rfl rfl)
theorem dJ30_grow_125 : decode cJ30_grow 125 = .ok (.aload_n 0, 1) := dk_42 (dk_at dksJ30_grow_5 8 rfl rfl)
theorem dJ30_grow_126 : decode cJ30_grow 126 = .ok (.getfield 24, 3) := dk_180 0 24 (dk_at dksJ30_grow_5 9 rfl rfl)
theorem dJ30_grow_129 : decode cJ30_grow 129 = .ok (.istore 7, 2) := dk_54 7 (dk_at dksJ30_grow_5 12 rfl rfl)
theorem dJ30_grow_131 : decode cJ30_grow 131 = .ok (.aload_n 0, 1) := dk_42 (dk_at dksJ30_grow_5 14 rfl rfl)
theorem dJ30_grow_132 : decode cJ30_grow 132 = .ok (.dup, 1) := dk_89 (dk_at dksJ30_grow_5 15 rfl rfl)
theorem dJ30_grow_133 : decode cJ30_grow 133 = .ok (.getfield 24, 3) := dk_180 0 24 (dk_at dksJ30_grow_5 16 rfl rfl)
theorem dJ30_grow_136 : decode cJ30_grow 136 = .ok (.iload 6, 2) := dk_21 6 (dk_at dksJ30_grow_5 19 rfl rfl)
theorem dJ30_grow_138 : decode cJ30_grow 138 = .ok (.iadd, 1) := dk_96 (dk_at dksJ30_grow_5 21 rfl rfl)
theorem dJ30_grow_139 : decode cJ30_grow 139 = .ok (.dup_x1, 1) := dk_90 (dk_at dksJ30_grow_5 22 rfl rfl)
theorem dJ30_grow_140 : decode cJ30_grow 140 = .ok (.putfield 24, 3) := dk_181 0 24 (dk_at dksJ30_grow_6 0 rfl rfl)
theorem dJ30_grow_143 : decode cJ30_grow 143 = .ok (.istore 8, 2) := dk_54 8 (dk_at dksJ30_grow_6 3 rfl rfl)
theorem dJ30_grow_145 : decode cJ30_grow 145 = .ok (.iload 7, 2) := dk_21 7 (dk_at dksJ30_grow_6 5 rfl rfl)
theorem dJ30_grow_147 : decode cJ30_grow 147 = .ok (.iload 8, 2) := dk_21 8 (dk_at dksJ30_grow_6 7 rfl rfl)
theorem dJ30_grow_149 : decode cJ30_grow 149 = .ok (.if_icmp .ge 15, 3) := dk_162 0 15 (dk_at dksJ30_grow_6 9 rfl rfl)
theorem dJ30_grow_152 : decode cJ30_grow 152 = .ok (.aload 5, 2) := dk_25 5 (dk_at dksJ30_grow_6 12 rfl rfl)
theorem dJ30_grow_154 : decode cJ30_grow 154 = .ok (.iload 7, 2) := dk_21 7 (dk_at dksJ30_grow_6 14 rfl rfl)
theorem dJ30_grow_156 : decode cJ30_grow 156 = .ok (.aconst_null, 1) := dk_1 (dk_at dksJ30_grow_6 16 rfl rfl)
theorem dJ30_grow_157 : decode cJ30_grow 157 = .ok (.aastore, 1) := dk_83 (dk_at dksJ30_grow_6 17 rfl rfl)
theorem dJ30_grow_158 : decode cJ30_grow 158 = .ok (.iinc 7 1, 3) := dk_132 7 1 (dk_at dksJ30_grow_6 18 rfl rfl)
theorem dJ30_grow_161 : decode cJ30_grow 161 = .ok (.goto (-16), 3) := dk_167 255 240 (dk_at dksJ30_grow_6 21 rfl rfl)
theorem dJ30_grow_164 : decode cJ30_grow 164 = .ok (.return_, 1) := dk_177 (dk_at dksJ30_grow_7 0 rfl rfl)
def dkwJ30_newCapacity_2 : List UInt8 := [18, 9, 100, 156, 0, 9, 29, 28, 96, 167, 0, 5, 18, 9, 172]
abbrev dktJ30_newCapacity_2 : List UInt8 := dkwJ30_newCapacity_2 ++ []
def dkwJ30_newCapacity_1 : List UInt8 := [187, 0, 33, 89, 18, 35, 183, 0, 37, 191, 18, 41, 172, 27, 28, 164, 0, 6, 21, 4, 172, 29, 28, 96]
abbrev dktJ30_newCapacity_1 : List UInt8 := dkwJ30_newCapacity_1 ++ dktJ30_newCapacity_2
def dkwJ30_newCapacity_0 : List UInt8 := [42, 180, 0, 3, 190, 62, 29, 27, 96, 89, 54, 4, 18, 9, 100, 158, 0, 21, 21, 4, 156, 0, 13]
abbrev dktJ30_newCapacity_0 : List UInt8 := dkwJ30_newCapacity_0 ++ dktJ30_newCapacity_1
theorem dksJ30_newCapacity_0 : cJ30_newCapacity.data.toList.drop 0 = dktJ30_newCapacity_0 := by decide +kernel
theorem dksJ30_newCapacity_1 : cJ30_newCapacity.data.toList.drop 23 = dktJ30_newCapacity_1 := dk_seg dksJ30_newCapacity_0 23 rfl rfl
theorem dksJ30_newCapacity_2 : cJ30_newCapacity.data.toList.drop 47 = dktJ30_newCapacity_2 := dk_seg dksJ30_newCapacity_1 24 rfl rfl
theorem dJ30_newCapacity_0 : decode cJ30_newCapacity 0 = .ok (.aload_n 0, 1) := dk_42 (dk_at dksJ30_newCapacity_0 0 rfl rfl)
theorem dJ30_newCapacity_1 : decode cJ30_newCapacity 1 = .ok (.getfield 3, 3) := dk_180 0 3 (dk_at dksJ30_newCapacity_0 1 rfl rfl)
theorem dJ30_newCapacity_4 : decode cJ30_newCapacity 4 = .ok (.arraylength, 1) := dk_190 (dk_at dksJ30_newCapacity_0 4 rfl rfl)
theorem dJ30_newCapacity_5 : decode cJ30_newCapacity 5 = .ok (.istore_n 3, 1) := dk_62 (dk_at dksJ30_newCapacity_0 5 rfl rfl)
theorem dJ30_newCapacity_6 : decode cJ30_newCapacity 6 = .ok (.iload_n 3, 1) := dk_29 (dk_at dksJ30_newCapacity_0 6 rfl rfl)
theorem dJ30_newCapacity_7 : decode cJ30_newCapacity 7 = .ok (.iload_n 1, 1) := dk_27 (dk_at dksJ30_newCapacity_0 7 rfl rfl)
theorem dJ30_newCapacity_8 : decode cJ30_newCapacity 8 = .ok (.iadd, 1) := dk_96 (dk_at dksJ30_newCapacity_0 8 rfl rfl)
theorem dJ30_newCapacity_9 : decode cJ30_newCapacity 9 = .ok (.dup, 1) := dk_89 (dk_at dksJ30_newCapacity_0 9 rfl rfl)
theorem dJ30_newCapacity_10 : decode cJ30_newCapacity 10 = .ok (.istore 4, 2) := dk_54 4 (dk_at dksJ30_newCapacity_0 10 rfl rfl)
theorem dJ30_newCapacity_12 : decode cJ30_newCapacity 12 = .ok (.ldc 9, 2) := dk_18 9 (dk_at dksJ30_newCapacity_0 12 rfl rfl)
theorem dJ30_newCapacity_14 : decode cJ30_newCapacity 14 = .ok (.isub, 1) := dk_100 (dk_at dksJ30_newCapacity_0 14 rfl rfl)
theorem dJ30_newCapacity_15 : decode cJ30_newCapacity 15 = .ok (.ifCond .le 21, 3) := dk_158 0 21 (dk_at dksJ30_newCapacity_0 15 rfl rfl)
theorem dJ30_newCapacity_18 : decode cJ30_newCapacity 18 = .ok (.iload 4, 2) := dk_21 4 (dk_at dksJ30_newCapacity_0 18 rfl rfl)
theorem dJ30_newCapacity_20 : decode cJ30_newCapacity 20 = .ok (.ifCond .ge 13, 3) := dk_156 0 13 (dk_at dksJ30_newCapacity_0 20 rfl rfl)
theorem dJ30_newCapacity_23 : decode cJ30_newCapacity 23 = .ok (.new 33, 3) := dk_187 0 33 (dk_at dksJ30_newCapacity_1 0 rfl rfl)
theorem dJ30_newCapacity_26 : decode cJ30_newCapacity 26 = .ok (.dup, 1) := dk_89 (dk_at dksJ30_newCapacity_1 3 rfl rfl)
theorem dJ30_newCapacity_27 : decode cJ30_newCapacity 27 = .ok (.ldc 35, 2) := dk_18 35 (dk_at dksJ30_newCapacity_1 4 rfl rfl)
theorem dJ30_newCapacity_29 : decode cJ30_newCapacity 29 = .ok (.invokespecial 37, 3) := dk_183 0 37 (dk_at dksJ30_newCapacity_1 6 rfl rfl)
theorem dJ30_newCapacity_32 : decode cJ30_newCapacity 32 = .ok (.athrow, 1) := dk_191 (dk_at dksJ30_newCapacity_1 9 rfl rfl)
theorem dJ30_newCapacity_33 : decode cJ30_newCapacity 33 = .ok (.ldc 41, 2) := dk_18 41 (dk_at dksJ30_newCapacity_1 10 rfl rfl)
theorem dJ30_newCapacity_35 : decode cJ30_newCapacity 35 = .ok (.ireturn, 1) := dk_172 (dk_at dksJ30_newCapacity_1 12 rfl rfl)
theorem dJ30_newCapacity_36 : decode cJ30_newCapacity 36 = .ok (.iload_n 1, 1) := dk_27 (dk_at dksJ30_newCapacity_1 13 rfl rfl)
theorem dJ30_newCapacity_37 : decode cJ30_newCapacity 37 = .ok (.iload_n 2, 1) := dk_28 (dk_at dksJ30_newCapacity_1 14 rfl rfl)
theorem dJ30_newCapacity_38 : decode cJ30_newCapacity 38 = .ok (.if_icmp .le 6, 3) := dk_164 0 6 (dk_at dksJ30_newCapacity_1 15 rfl rfl)
theorem dJ30_newCapacity_41 : decode cJ30_newCapacity 41 = .ok (.iload 4, 2) := dk_21 4 (dk_at dksJ30_newCapacity_1 18 rfl rfl)
theorem dJ30_newCapacity_43 : decode cJ30_newCapacity 43 = .ok (.ireturn, 1) := dk_172 (dk_at dksJ30_newCapacity_1 20 rfl rfl)
theorem dJ30_newCapacity_44 : decode cJ30_newCapacity 44 = .ok (.iload_n 3, 1) := dk_29 (dk_at dksJ30_newCapacity_1 21 rfl rfl)
theorem dJ30_newCapacity_45 : decode cJ30_newCapacity 45 = .ok (.iload_n 2, 1) := dk_28 (dk_at dksJ30_newCapacity_1 22 rfl rfl)
theorem dJ30_newCapacity_46 : decode cJ30_newCapacity 46 = .ok (.iadd, 1) := dk_96 (dk_at dksJ30_newCapacity_1 23 rfl rfl)
theorem dJ30_newCapacity_47 : decode cJ30_newCapacity 47 = .ok (.ldc 9, 2) := dk_18 9 (dk_at dksJ30_newCapacity_2 0 rfl rfl)
theorem dJ30_newCapacity_49 : decode cJ30_newCapacity 49 = .ok (.isub, 1) := dk_100 (dk_at dksJ30_newCapacity_2 2 rfl rfl)
theorem dJ30_newCapacity_50 : decode cJ30_newCapacity 50 = .ok (.ifCond .ge 9, 3) := dk_156 0 9 (dk_at dksJ30_newCapacity_2 3 rfl rfl)
theorem dJ30_newCapacity_53 : decode cJ30_newCapacity 53 = .ok (.iload_n 3, 1) := dk_29 (dk_at dksJ30_newCapacity_2 6 rfl rfl)
theorem dJ30_newCapacity_54 : decode cJ30_newCapacity 54 = .ok (.iload_n 2, 1) := dk_28 (dk_at dksJ30_newCapacity_2 7 rfl rfl)
theorem dJ30_newCapacity_55 : decode cJ30_newCapacity 55 = .ok (.iadd, 1) := dk_96 (dk_at dksJ30_newCapacity_2 8 rfl rfl)
theorem dJ30_newCapacity_56 : decode cJ30_newCapacity 56 = .ok (.goto 5, 3) := dk_167 0 5 (dk_at dksJ30_newCapacity_2 9 rfl rfl)
theorem dJ30_newCapacity_59 : decode cJ30_newCapacity 59 = .ok (.ldc 9, 2) := dk_18 9 (dk_at dksJ30_newCapacity_2 12 rfl rfl)
theorem dJ30_newCapacity_61 : decode cJ30_newCapacity 61 = .ok (.ireturn, 1) := dk_172 (dk_at dksJ30_newCapacity_2 14 rfl rfl)
def dkwJ30_iterator_0 : List UInt8 := [187, 0, 131, 89, 42, 183, 0, 133, 176]
abbrev dktJ30_iterator_0 : List UInt8 := dkwJ30_iterator_0 ++ []
theorem dksJ30_iterator_0 : cJ30_iterator.data.toList.drop 0 = dktJ30_iterator_0 := by decide +kernel
theorem dJ30_iterator_0 : decode cJ30_iterator 0 = .ok (.new 131, 3) := dk_187 0 131 (dk_at dksJ30_iterator_0 0 rfl rfl)
theorem dJ30_iterator_3 : decode cJ30_iterator 3 = .ok (.dup, 1) := dk_89 (dk_at dksJ30_iterator_0 3 rfl rfl)
theorem dJ30_iterator_4 : decode cJ30_iterator 4 = .ok (.aload_n 0, 1) := dk_42 (dk_at dksJ30_iterator_0 4 rfl rfl)
theorem dJ30_iterator_5 : decode cJ30_iterator 5 = .ok (.invokespecial 133, 3) := dk_183 0 133 (dk_at dksJ30_iterator_0 5 rfl rfl)
theorem dJ30_iterator_8 : decode cJ30_iterator 8 = .ok (.areturn, 1) := dk_176 (dk_at dksJ30_iterator_0 8 rfl rfl)
def dkwJ30_size_0 : List UInt8 := [42, 180, 0, 20, 42, 180, 0, 24, 42, 180, 0, 3, 190, 184, 0, 127, 172]
abbrev dktJ30_size_0 : List UInt8 := dkwJ30_size_0 ++ []
theorem dksJ30_size_0 : cJ30_size.data.toList.drop 0 = dktJ30_size_0 := by decide +kernel
theorem dJ30_size_0 : decode cJ30_size 0 = .ok (.aload_n 0, 1) := dk_42 (dk_at dksJ30_size_0 0 rfl rfl)
theorem dJ30_size_1 : decode cJ30_size 1 = .ok (.getfield 20, 3) := dk_180 0 20 (dk_at dksJ30_size_0 1 rfl rfl)
theorem dJ30_size_4 : decode cJ30_size 4 = .ok (.aload_n 0, 1) := dk_42 (dk_at dksJ30_size_0 4 rfl rfl)
theorem dJ30_size_5 : decode cJ30_size 5 = .ok (.getfield 24, 3) := dk_180 0 24 (dk_at dksJ30_size_0 5 rfl rfl)
theorem dJ30_size_8 : decode cJ30_size 8 = .ok (.aload_n 0, 1) := dk_42 (dk_at dksJ30_size_0 8 rfl rfl)
theorem dJ30_size_9 : decode cJ30_size 9 = .ok (.getfield 3, 3) := dk_180 0 3 (dk_at dksJ30_size_0 9 rfl rfl)
theorem dJ30_size_12 : decode cJ30_size 12 = .ok (.arraylength, 1) := dk_190 (dk_at dksJ30_size_0 12 rfl rfl)
theorem dJ30_size_13 : decode cJ30_size 13 = .ok (.invokestatic 127, 3) := dk_184 0 127 (dk_at dksJ30_size_0 13 rfl rfl)
theorem dJ30_size_16 : decode cJ30_size 16 = .ok (.ireturn, 1) := dk_172 (dk_at dksJ30_size_0 16 rfl rfl)
def dkwJ30_sub_0 : List UInt8 := [26, 27, 100, 89, 59, 156, 0, 7, 26, 28, 96, 59, 26, 172]
abbrev dktJ30_sub_0 : List UInt8 := dkwJ30_sub_0 ++ []
theorem dksJ30_sub_0 : cJ30_sub.data.toList.drop 0 = dktJ30_sub_0 := by decide +kernel
theorem dJ30_sub_0 : decode cJ30_sub 0 = .ok (.iload_n 0, 1) := dk_26 (dk_at dksJ30_sub_0 0 rfl rfl)
theorem dJ30_sub_1 : decode cJ30_sub 1 = .ok (.iload_n 1, 1) := dk_27 (dk_at dksJ30_sub_0 1 rfl rfl)
theorem dJ30_sub_2 : decode cJ30_sub 2 = .ok (.isub, 1) := dk_100 (dk_at dksJ30_sub_0 2 rfl rfl)
theorem dJ30_sub_3 : decode cJ30_sub 3 = .ok (.dup, 1) := dk_89 (dk_at dksJ30_sub_0 3 rfl rfl)
theorem dJ30_sub_4 : decode cJ30_sub 4 = .ok (.istore_n 0, 1) := dk_59 (dk_at dksJ30_sub_0 4 rfl rfl)
theorem dJ30_sub_5 : decode cJ30_sub 5 = .ok (.ifCond .ge 7, 3) := dk_156 0 7 (dk_at dksJ30_sub_0 5 rfl rfl)
theorem dJ30_sub_8 : decode cJ30_sub 8 = .ok (.iload_n 0, 1) := dk_26 (dk_at dksJ30_sub_0 8 rfl rfl)
theorem dJ30_sub_9 : decode cJ30_sub 9 = .ok (.iload_n 2, 1) := dk_28 (dk_at dksJ30_sub_0 9 rfl rfl)
theorem dJ30_sub_10 : decode cJ30_sub 10 = .ok (.iadd, 1) := dk_96 (dk_at dksJ30_sub_0 10 rfl rfl)
theorem dJ30_sub_11 : decode cJ30_sub 11 = .ok (.istore_n 0, 1) := dk_59 (dk_at dksJ30_sub_0 11 rfl rfl)
theorem dJ30_sub_12 : decode cJ30_sub 12 = .ok (.iload_n 0, 1) := dk_26 (dk_at dksJ30_sub_0 12 rfl rfl)
theorem dJ30_sub_13 : decode cJ30_sub 13 = .ok (.ireturn, 1) := dk_172 (dk_at dksJ30_sub_0 13 rfl rfl)
def dkwJ31_hasNext_0 : List UInt8 := [42, 180, 0, 19, 158, 0, 7, 4, 167, 0, 4, 3, 172]
abbrev dktJ31_hasNext_0 : List UInt8 := dkwJ31_hasNext_0 ++ []
theorem dksJ31_hasNext_0 : cJ31_hasNext.data.toList.drop 0 = dktJ31_hasNext_0 := by decide +kernel
theorem dJ31_hasNext_0 : decode cJ31_hasNext 0 = .ok (.aload_n 0, 1) := dk_42 (dk_at dksJ31_hasNext_0 0 rfl rfl)
theorem dJ31_hasNext_1 : decode cJ31_hasNext 1 = .ok (.getfield 19, 3) := dk_180 0 19 (dk_at dksJ31_hasNext_0 1 rfl rfl)
theorem dJ31_hasNext_4 : decode cJ31_hasNext 4 = .ok (.ifCond .le 7, 3) := dk_158 0 7 (dk_at dksJ31_hasNext_0 4 rfl rfl)
theorem dJ31_hasNext_7 : decode cJ31_hasNext 7 = .ok (.iconst 1, 1) := dk_4 (dk_at dksJ31_hasNext_0 7 rfl rfl)
theorem dJ31_hasNext_8 : decode cJ31_hasNext 8 = .ok (.goto 4, 3) := dk_167 0 4 (dk_at dksJ31_hasNext_0 8 rfl rfl)
theorem dJ31_hasNext_11 : decode cJ31_hasNext 11 = .ok (.iconst 0, 1) := dk_3 (dk_at dksJ31_hasNext_0 11 rfl rfl)
theorem dJ31_hasNext_12 : decode cJ31_hasNext 12 = .ok (.ireturn, 1) := dk_172 (dk_at dksJ31_hasNext_0 12 rfl rfl)
def dkwJ31_next_2 : List UInt8 := [181, 0, 29, 42, 89, 180, 0, 19, 4, 100, 181, 0, 19, 44, 176]
abbrev dktJ31_next_2 : List UInt8 := dkwJ31_next_2 ++ []
def dkwJ31_next_1 : List UInt8 := [42, 180, 0, 29, 184, 0, 39, 77, 42, 42, 42, 180, 0, 29, 90, 181, 0, 23, 43, 190, 184, 0, 43]
abbrev dktJ31_next_1 : List UInt8 := dkwJ31_next_1 ++ dktJ31_next_2
def dkwJ31_next_0 : List UInt8 := [42, 180, 0, 19, 157, 0, 11, 187, 0, 32, 89, 183, 0, 34, 191, 42, 180, 0, 1, 180, 0, 35, 76, 43]
abbrev dktJ31_next_0 : List UInt8 := dkwJ31_next_0 ++ dktJ31_next_1
theorem dksJ31_next_0 : cJ31_next.data.toList.drop 0 = dktJ31_next_0 := by decide +kernel
theorem dksJ31_next_1 : cJ31_next.data.toList.drop 24 = dktJ31_next_1 := dk_seg dksJ31_next_0 24 rfl rfl
theorem dksJ31_next_2 : cJ31_next.data.toList.drop 47 = dktJ31_next_2 := dk_seg dksJ31_next_1 23 rfl rfl
theorem dJ31_next_0 : decode cJ31_next 0 = .ok (.aload_n 0, 1) := dk_42 (dk_at dksJ31_next_0 0 rfl rfl)
theorem dJ31_next_1 : decode cJ31_next 1 = .ok (.getfield 19, 3) := dk_180 0 19 (dk_at dksJ31_next_0 1 rfl rfl)
theorem dJ31_next_4 : decode cJ31_next 4 = .ok (.ifCond .gt 11, 3) := dk_157 0 11 (dk_at dksJ31_next_0 4 rfl rfl)
theorem dJ31_next_7 : decode cJ31_next 7 = .ok (.new 32, 3) := dk_187 0 32 (dk_at dksJ31_next_0 7 rfl rfl)
theorem dJ31_next_10 : decode cJ31_next 10 = .ok (.dup, 1) := dk_89 (dk_at dksJ31_next_0 10 rfl rfl)
theorem dJ31_next_11 : decode cJ31_next 11 = .ok (.invokespecial 34, 3) := dk_183 0 34 (dk_at dksJ31_next_0 11 rfl rfl)
theorem dJ31_next_14 : decode cJ31_next 14 = .ok (.athrow, 1) := dk_191 (dk_at dksJ31_next_0 14 rfl rfl)
theorem dJ31_next_15 : decode cJ31_next 15 = .ok (.aload_n 0, 1) := dk_42 (dk_at dksJ31_next_0 15 rfl rfl)
theorem dJ31_next_16 : decode cJ31_next 16 = .ok (.getfield 1, 3) := dk_180 0 1 (dk_at dksJ31_next_0 16 rfl rfl)
theorem dJ31_next_19 : decode cJ31_next 19 = .ok (.getfield 35, 3) := dk_180 0 35 (dk_at dksJ31_next_0 19 rfl rfl)
theorem dJ31_next_22 : decode cJ31_next 22 = .ok (.astore_n 1, 1) := dk_76 (dk_at dksJ31_next_0 22 rfl rfl)
theorem dJ31_next_23 : decode cJ31_next 23 = .ok (.aload_n 1, 1) := dk_43 (dk_at dksJ31_next_0 23 rfl rfl)
theorem dJ31_next_24 : decode cJ31_next 24 = .ok (.aload_n 0, 1) := dk_42 (dk_at dksJ31_next_1 0 rfl rfl)
theorem dJ31_next_25 : decode cJ31_next 25 = .ok (.getfield 29, 3) := dk_180 0 29 (dk_at dksJ31_next_1 1 rfl rfl)
theorem dJ31_next_28 : decode cJ31_next 28 = .ok (.invokestatic 39, 3) := dk_184 0 39 (dk_at dksJ31_next_1 4 rfl rfl)
theorem dJ31_next_31 : decode cJ31_next 31 = .ok (.astore_n 2, 1) := dk_77 (dk_at dksJ31_next_1 7 rfl rfl)
theorem dJ31_next_32 : decode cJ31_next 32 = .ok (.aload_n 0, 1) := dk_42 (dk_at dksJ31_next_1 8 rfl rfl)
theorem dJ31_next_33 : decode cJ31_next 33 = .ok (.aload_n 0, 1) := dk_42 (dk_at dksJ31_next_1 9 rfl rfl)
theorem dJ31_next_34 : decode cJ31_next 34 = .ok (.aload_n 0, 1) := dk_42 (dk_at dksJ31_next_1 10 rfl rfl)
theorem dJ31_next_35 : decode cJ31_next 35 = .ok (.getfield 29, 3) := dk_180 0 29 (dk_at dksJ31_next_1 11 rfl rfl)
theorem dJ31_next_38 : decode cJ31_next 38 = .ok (.dup_x1, 1) := dk_90 (dk_at dksJ31_next_1 14 rfl rfl)
theorem dJ31_next_39 : decode cJ31_next 39 = .ok (.putfield 23, 3) := dk_181 0 23 (dk_at dksJ31_next_1 15 rfl rfl)
theorem dJ31_next_42 : decode cJ31_next 42 = .ok (.aload_n 1, 1) := dk_43 (dk_at dksJ31_next_1 18 rfl rfl)
theorem dJ31_next_43 : decode cJ31_next 43 = .ok (.arraylength, 1) := dk_190 (dk_at dksJ31_next_1 19 rfl rfl)
theorem dJ31_next_44 : decode cJ31_next 44 = .ok (.invokestatic 43, 3) := dk_184 0 43 (dk_at dksJ31_next_1 20 rfl rfl)
theorem dJ31_next_47 : decode cJ31_next 47 = .ok (.putfield 29, 3) := dk_181 0 29 (dk_at dksJ31_next_2 0 rfl rfl)
theorem dJ31_next_50 : decode cJ31_next 50 = .ok (.aload_n 0, 1) := dk_42 (dk_at dksJ31_next_2 3 rfl rfl)
theorem dJ31_next_51 : decode cJ31_next 51 = .ok (.dup, 1) := dk_89 (dk_at dksJ31_next_2 4 rfl rfl)
theorem dJ31_next_52 : decode cJ31_next 52 = .ok (.getfield 19, 3) := dk_180 0 19 (dk_at dksJ31_next_2 5 rfl rfl)
theorem dJ31_next_55 : decode cJ31_next 55 = .ok (.iconst 1, 1) := dk_4 (dk_at dksJ31_next_2 8 rfl rfl)
theorem dJ31_next_56 : decode cJ31_next 56 = .ok (.isub, 1) := dk_100 (dk_at dksJ31_next_2 9 rfl rfl)
theorem dJ31_next_57 : decode cJ31_next 57 = .ok (.putfield 19, 3) := dk_181 0 19 (dk_at dksJ31_next_2 10 rfl rfl)
theorem dJ31_next_60 : decode cJ31_next 60 = .ok (.aload_n 2, 1) := dk_44 (dk_at dksJ31_next_2 13 rfl rfl)
theorem dJ31_next_61 : decode cJ31_next 61 = .ok (.areturn, 1) := dk_176 (dk_at dksJ31_next_2 14 rfl rfl)
def dkwJ31_init_1 : List UInt8 := [181, 0, 23, 42, 43, 180, 0, 26, 181, 0, 29, 177]
abbrev dktJ31_init_1 : List UInt8 := dkwJ31_init_1 ++ []
def dkwJ31_init_0 : List UInt8 := [42, 43, 181, 0, 1, 42, 183, 0, 7, 42, 42, 180, 0, 1, 182, 0, 13, 181, 0, 19, 42, 2]
abbrev dktJ31_init_0 : List UInt8 := dkwJ31_init_0 ++ dktJ31_init_1
theorem dksJ31_init_0 : cJ31_init.data.toList.drop 0 = dktJ31_init_0 := by decide +kernel
theorem dksJ31_init_1 : cJ31_init.data.toList.drop 22 = dktJ31_init_1 := dk_seg dksJ31_init_0 22 rfl rfl
theorem dJ31_init_0 : decode cJ31_init 0 = .ok (.aload_n 0, 1) := dk_42 (dk_at dksJ31_init_0 0 rfl rfl)
theorem dJ31_init_1 : decode cJ31_init 1 = .ok (.aload_n 1, 1) := dk_43 (dk_at dksJ31_init_0 1 rfl rfl)
theorem dJ31_init_2 : decode cJ31_init 2 = .ok (.putfield 1, 3) := dk_181 0 1 (dk_at dksJ31_init_0 2 rfl rfl)
theorem dJ31_init_5 : decode cJ31_init 5 = .ok (.aload_n 0, 1) := dk_42 (dk_at dksJ31_init_0 5 rfl rfl)
theorem dJ31_init_6 : decode cJ31_init 6 = .ok (.invokespecial 7, 3) := dk_183 0 7 (dk_at dksJ31_init_0 6 rfl rfl)
theorem dJ31_init_9 : decode cJ31_init 9 = .ok (.aload_n 0, 1) := dk_42 (dk_at dksJ31_init_0 9 rfl rfl)
theorem dJ31_init_10 : decode cJ31_init 10 = .ok (.aload_n 0, 1) := dk_42 (dk_at dksJ31_init_0 10 rfl rfl)
theorem dJ31_init_11 : decode cJ31_init 11 = .ok (.getfield 1, 3) := dk_180 0 1 (dk_at dksJ31_init_0 11 rfl rfl)
theorem dJ31_init_14 : decode cJ31_init 14 = .ok (.invokevirtual 13, 3) := dk_182 0 13 (dk_at dksJ31_init_0 14 rfl rfl)
theorem dJ31_init_17 : decode cJ31_init 17 = .ok (.putfield 19, 3) := dk_181 0 19 (dk_at dksJ31_init_0 17 rfl rfl)
theorem dJ31_init_20 : decode cJ31_init 20 = .ok (.aload_n 0, 1) := dk_42 (dk_at dksJ31_init_0 20 rfl rfl)
theorem dJ31_init_21 : decode cJ31_init 21 = .ok (.iconst (-1), 1) := dk_2 (dk_at dksJ31_init_0 21 rfl rfl)
theorem dJ31_init_22 : decode cJ31_init 22 = .ok (.putfield 23, 3) := dk_181 0 23 (dk_at dksJ31_init_1 0 rfl rfl)
theorem dJ31_init_25 : decode cJ31_init 25 = .ok (.aload_n 0, 1) := dk_42 (dk_at dksJ31_init_1 3 rfl rfl)
theorem dJ31_init_26 : decode cJ31_init 26 = .ok (.aload_n 1, 1) := dk_43 (dk_at dksJ31_init_1 4 rfl rfl)
theorem dJ31_init_27 : decode cJ31_init 27 = .ok (.getfield 26, 3) := dk_180 0 26 (dk_at dksJ31_init_1 5 rfl rfl)
theorem dJ31_init_30 : decode cJ31_init 30 = .ok (.putfield 29, 3) := dk_181 0 29 (dk_at dksJ31_init_1 8 rfl rfl)
theorem dJ31_init_33 : decode cJ31_init 33 = .ok (.return_, 1) := dk_177 (dk_at dksJ31_init_1 11 rfl rfl)
def dkwJ32_init_2 : List UInt8 := [27, 182, 0, 27, 42, 4, 181, 0, 24, 177]
abbrev dktJ32_init_2 : List UInt8 := dkwJ32_init_2 ++ []
def dkwJ32_init_1 : List UInt8 := [187, 0, 33, 89, 183, 0, 35, 18, 36, 182, 0, 38, 27, 182, 0, 42, 182, 0, 45, 183, 0, 49, 191, 42]
abbrev dktJ32_init_1 : List UInt8 := dkwJ32_init_1 ++ dktJ32_init_2
def dkwJ32_init_0 : List UInt8 := [42, 183, 0, 21, 42, 3, 181, 0, 7, 42, 3, 181, 0, 24, 27, 156, 0, 30, 187, 0, 31, 89]
abbrev dktJ32_init_0 : List UInt8 := dkwJ32_init_0 ++ dktJ32_init_1
theorem dksJ32_init_0 : cJ32_init.data.toList.drop 0 = dktJ32_init_0 := by decide +kernel
theorem dksJ32_init_1 : cJ32_init.data.toList.drop 22 = dktJ32_init_1 := dk_seg dksJ32_init_0 22 rfl rfl
theorem dksJ32_init_2 : cJ32_init.data.toList.drop 46 = dktJ32_init_2 := dk_seg dksJ32_init_1 24 rfl rfl
theorem dJ32_init_0 : decode cJ32_init 0 = .ok (.aload_n 0, 1) := dk_42 (dk_at dksJ32_init_0 0 rfl rfl)
theorem dJ32_init_1 : decode cJ32_init 1 = .ok (.invokespecial 21, 3) := dk_183 0 21 (dk_at dksJ32_init_0 1 rfl rfl)
theorem dJ32_init_4 : decode cJ32_init 4 = .ok (.aload_n 0, 1) := dk_42 (dk_at dksJ32_init_0 4 rfl rfl)
theorem dJ32_init_5 : decode cJ32_init 5 = .ok (.iconst 0, 1) := dk_3 (dk_at dksJ32_init_0 5 rfl rfl)
theorem dJ32_init_6 : decode cJ32_init 6 = .ok (.putfield 7, 3) := dk_181 0 7 (dk_at dksJ32_init_0 6 rfl rfl)
theorem dJ32_init_9 : decode cJ32_init 9 = .ok (.aload_n 0, 1) := dk_42 (dk_at dksJ32_init_0 9 rfl rfl)
theorem dJ32_init_10 : decode cJ32_init 10 = .ok (.iconst 0, 1) := dk_3 (dk_at dksJ32_init_0 10 rfl rfl)
theorem dJ32_init_11 : decode cJ32_init 11 = .ok (.putfield 24, 3) := dk_181 0 24 (dk_at dksJ32_init_0 11 rfl rfl)
theorem dJ32_init_14 : decode cJ32_init 14 = .ok (.iload_n 1, 1) := dk_27 (dk_at dksJ32_init_0 14 rfl rfl)
theorem dJ32_init_15 : decode cJ32_init 15 = .ok (.ifCond .ge 30, 3) := dk_156 0 30 (dk_at dksJ32_init_0 15 rfl rfl)
theorem dJ32_init_18 : decode cJ32_init 18 = .ok (.new 31, 3) := dk_187 0 31 (dk_at dksJ32_init_0 18 rfl rfl)
theorem dJ32_init_21 : decode cJ32_init 21 = .ok (.dup, 1) := dk_89 (dk_at dksJ32_init_0 21 rfl rfl)
theorem dJ32_init_22 : decode cJ32_init 22 = .ok (.new 33, 3) := dk_187 0 33 (dk_at dksJ32_init_1 0 rfl rfl)
theorem dJ32_init_25 : decode cJ32_init 25 = .ok (.dup, 1) := dk_89 (dk_at dksJ32_init_1 3 rfl rfl)
theorem dJ32_init_26 : decode cJ32_init 26 = .ok (.invokespecial 35, 3) := dk_183 0 35 (dk_at dksJ32_init_1 4 rfl rfl)
theorem dJ32_init_29 : decode cJ32_init 29 = .ok (.ldc 36, 2) := dk_18 36 (dk_at dksJ32_init_1 7 rfl rfl)
theorem dJ32_init_31 : decode cJ32_init 31 = .ok (.invokevirtual 38, 3) := dk_182 0 38 (dk_at dksJ32_init_1 9 rfl rfl)
theorem dJ32_init_34 : decode cJ32_init 34 = .ok (.iload_n 1, 1) := dk_27 (dk_at dksJ32_init_1 12 rfl rfl)
theorem dJ32_init_35 : decode cJ32_init 35 = .ok (.invokevirtual 42, 3) := dk_182 0 42 (dk_at dksJ32_init_1 13 rfl rfl)
theorem dJ32_init_38 : decode cJ32_init 38 = .ok (.invokevirtual 45, 3) := dk_182 0 45 (dk_at dksJ32_init_1 16 rfl rfl)
theorem dJ32_init_41 : decode cJ32_init 41 = .ok (.invokespecial 49, 3) := dk_183 0 49 (dk_at dksJ32_init_1 19 rfl rfl)
theorem dJ32_init_44 : decode cJ32_init 44 = .ok (.athrow, 1) := dk_191 (dk_at dksJ32_init_1 22 rfl rfl)
theorem dJ32_init_45 : decode cJ32_init 45 = .ok (.aload_n 0, 1) := dk_42 (dk_at dksJ32_init_1 23 rfl rfl)
theorem dJ32_init_46 : decode cJ32_init 46 = .ok (.iload_n 1, 1) := dk_27 (dk_at dksJ32_init_2 0 rfl rfl)
theorem dJ32_init_47 : decode cJ32_init 47 = .ok (.invokevirtual 27, 3) := dk_182 0 27 (dk_at dksJ32_init_2 1 rfl rfl)
theorem dJ32_init_50 : decode cJ32_init 50 = .ok (.aload_n 0, 1) := dk_42 (dk_at dksJ32_init_2 4 rfl rfl)
theorem dJ32_init_51 : decode cJ32_init 51 = .ok (.iconst 1, 1) := dk_4 (dk_at dksJ32_init_2 5 rfl rfl)
theorem dJ32_init_52 : decode cJ32_init 52 = .ok (.putfield 24, 3) := dk_181 0 24 (dk_at dksJ32_init_2 6 rfl rfl)
theorem dJ32_init_55 : decode cJ32_init 55 = .ok (.return_, 1) := dk_177 (dk_at dksJ32_init_2 9 rfl rfl)
def dkwJ32_initWords_0 : List UInt8 := [42, 27, 4, 100, 184, 0, 52, 4, 96, 188, 11, 181, 0, 11, 177]
abbrev dktJ32_initWords_0 : List UInt8 := dkwJ32_initWords_0 ++ []
theorem dksJ32_initWords_0 : cJ32_initWords.data.toList.drop 0 = dktJ32_initWords_0 := by decide +kernel
theorem dJ32_initWords_0 : decode cJ32_initWords 0 = .ok (.aload_n 0, 1) := dk_42 (dk_at dksJ32_initWords_0 0 rfl rfl)
theorem dJ32_initWords_1 : decode cJ32_initWords 1 = .ok (.iload_n 1, 1) := dk_27 (dk_at dksJ32_initWords_0 1 rfl rfl)
theorem dJ32_initWords_2 : decode cJ32_initWords 2 = .ok (.iconst 1, 1) := dk_4 (dk_at dksJ32_initWords_0 2 rfl rfl)
theorem dJ32_initWords_3 : decode cJ32_initWords 3 = .ok (.isub, 1) := dk_100 (dk_at dksJ32_initWords_0 3 rfl rfl)
theorem dJ32_initWords_4 : decode cJ32_initWords 4 = .ok (.invokestatic 52, 3) := dk_184 0 52 (dk_at dksJ32_initWords_0 4 rfl rfl)
theorem dJ32_initWords_7 : decode cJ32_initWords 7 = .ok (.iconst 1, 1) := dk_4 (dk_at dksJ32_initWords_0 7 rfl rfl)
theorem dJ32_initWords_8 : decode cJ32_initWords 8 = .ok (.iadd, 1) := dk_96 (dk_at dksJ32_initWords_0 8 rfl rfl)
theorem dJ32_initWords_9 : decode cJ32_initWords 9 = .ok (.newarray .long, 2) := dk_188_11 (dk_at dksJ32_initWords_0 9 rfl rfl)
theorem dJ32_initWords_11 : decode cJ32_initWords 11 = .ok (.putfield 11, 3) := dk_181 0 11 (dk_at dksJ32_initWords_0 11 rfl rfl)
theorem dJ32_initWords_14 : decode cJ32_initWords 14 = .ok (.return_, 1) := dk_177 (dk_at dksJ32_initWords_0 14 rfl rfl)
def dkwJ32_wordIndex_0 : List UInt8 := [26, 16, 6, 122, 172]
abbrev dktJ32_wordIndex_0 : List UInt8 := dkwJ32_wordIndex_0 ++ []
theorem dksJ32_wordIndex_0 : cJ32_wordIndex.data.toList.drop 0 = dktJ32_wordIndex_0 := by decide +kernel
theorem dJ32_wordIndex_0 : decode cJ32_wordIndex 0 = .ok (.iload_n 0, 1) := dk_26 (dk_at dksJ32_wordIndex_0 0 rfl rfl)
theorem dJ32_wordIndex_1 : decode cJ32_wordIndex 1 = .ok (.bipush 6, 2) := dk_16 6 (dk_at dksJ32_wordIndex_0 1 rfl rfl)
theorem dJ32_wordIndex_3 : decode cJ32_wordIndex 3 = .ok (.ishr, 1) := dk_122 (dk_at dksJ32_wordIndex_0 3 rfl rfl)
theorem dJ32_wordIndex_4 : decode cJ32_wordIndex 4 = .ok (.ireturn, 1) := dk_172 (dk_at dksJ32_wordIndex_0 4 rfl rfl)
def dkwJ32_set_5 : List UInt8 := [42, 182, 0, 56, 177]
abbrev dktJ32_set_5 : List UInt8 := dkwJ32_set_5 ++ []
def dkwJ32_set_4 : List UInt8 := [21, 9, 20, 0, 165, 80, 132, 9, 1, 167, 255, 236, 42, 180, 0, 11, 21, 4, 92, 47, 22, 7, 129, 80]
abbrev dktJ32_set_4 : List UInt8 := dkwJ32_set_4 ++ dktJ32_set_5
def dkwJ32_set_3 : List UInt8 := [29, 92, 47, 22, 5, 129, 80, 29, 4, 96, 54, 9, 21, 9, 21, 4, 162, 0, 19, 42, 180, 0, 11]
abbrev dktJ32_set_3 : List UInt8 := dkwJ32_set_3 ++ dktJ32_set_4
def dkwJ32_set_2 : List UInt8 := [160, 0, 20, 42, 180, 0, 11, 29, 92, 47, 22, 5, 22, 7, 127, 129, 80, 167, 0, 54, 42, 180, 0, 11]
abbrev dktJ32_set_2 : List UInt8 := dkwJ32_set_2 ++ dktJ32_set_3
def dkwJ32_set_1 : List UInt8 := [42, 21, 4, 182, 0, 155, 20, 0, 165, 27, 121, 55, 5, 20, 0, 165, 28, 116, 125, 55, 7, 29, 21, 4]
abbrev dktJ32_set_1 : List UInt8 := dkwJ32_set_1 ++ dktJ32_set_2
def dkwJ32_set_0 : List UInt8 := [27, 28, 184, 0, 161, 27, 28, 160, 0, 4, 177, 27, 184, 0, 52, 62, 28, 4, 100, 184, 0, 52, 54, 4]
abbrev dktJ32_set_0 : List UInt8 := dkwJ32_set_0 ++ dktJ32_set_1
theorem dksJ32_set_0 : cJ32_set.data.toList.drop 0 = dktJ32_set_0 := by decide +kernel
theorem dksJ32_set_1 : cJ32_set.data.toList.drop 24 = dktJ32_set_1 := dk_seg dksJ32_set_0 24 rfl rfl
theorem dksJ32_set_2 : cJ32_set.data.toList.drop 48 = dktJ32_set_2 := dk_seg dksJ32_set_1 24 rfl rfl
theorem dksJ32_set_3 : cJ32_set.data.toList.drop 72 = dktJ32_set_3 := dk_seg dksJ32_set_2 24 rfl rfl
theorem dksJ32_set_4 : cJ32_set.data.toList.drop 95 = dktJ32_set_4 := dk_seg dksJ32_set_3 23 rfl rfl
theorem dksJ32_set_5 : cJ32_set.data.toList.drop 119 = dktJ32_set_5 := dk_seg dksJ32_set_4 24 rfl rfl
theorem dJ32_set_0 : decode cJ32_set 0 = .ok (.iload_n 1, 1) := dk_27 (dk_at dksJ32_set_0 0 rfl rfl)
theorem dJ32_set_1 : decode cJ32_set 1 = .ok (.iload_n 2, 1) := dk_28 (dk_at dksJ32_set_0 1 rfl rfl)
theorem dJ32_set_2 : decode cJ32_set 2 = .ok (.invokestatic 161, 3) := dk_184 0 161 (dk_at dksJ32_set_0 2 rfl rfl)
theorem dJ32_set_5 : decode cJ32_set 5 = .ok (.iload_n 1, 1) := dk_27 (dk_at dksJ32_set_0 5 rfl rfl)
theorem dJ32_set_6 : decode cJ32_set 6 = .ok (.iload_n 2, 1) := dk_28 (dk_at dksJ32_set_0 6 rfl rfl)
theorem dJ32_set_7 : decode cJ32_set 7 = .ok (.if_icmp .ne 4, 3) := dk_160 0 4 (dk_at dksJ32_set_0 7 rfl rfl)
theorem dJ32_set_10 : decode cJ32_set 10 = .ok (.return_, 1) := dk_177 (dk_at dksJ32_set_0 10 rfl rfl)
theorem dJ32_set_11 : decode cJ32_set 11 = .ok (.iload_n 1, 1) := dk_27 (dk_at dksJ32_set_0 11 rfl rfl)
theorem dJ32_set_12 : decode cJ32_set 12 = .ok (.invokestatic 52, 3) := dk_184 0 52 (dk_at dksJ32_set_0 12 rfl rfl)
theorem dJ32_set_15 : decode cJ32_set 15 = .ok (.istore_n 3, 1) := dk_62 (dk_at dksJ32_set_0 15 rfl rfl)
theorem dJ32_set_16 : decode cJ32_set 16 = .ok (.iload_n 2, 1) := dk_28 (dk_at dksJ32_set_0 16 rfl rfl)
theorem dJ32_set_17 : decode cJ32_set 17 = .ok (.iconst 1, 1) := dk_4 (dk_at dksJ32_set_0 17 rfl rfl)
theorem dJ32_set_18 : decode cJ32_set 18 = .ok (.isub, 1) := dk_100 (dk_at dksJ32_set_0 18 rfl rfl)
theorem dJ32_set_19 : decode cJ32_set 19 = .ok (.invokestatic 52, 3) := dk_184 0 52 (dk_at dksJ32_set_0 19 rfl rfl)
theorem dJ32_set_22 : decode cJ32_set 22 = .ok (.istore 4, 2) := dk_54 4 (dk_at dksJ32_set_0 22 rfl rfl)
theorem dJ32_set_24 : decode cJ32_set 24 = .ok (.aload_n 0, 1) := dk_42 (dk_at dksJ32_set_1 0 rfl rfl)
theorem dJ32_set_25 : decode cJ32_set 25 = .ok (.iload 4, 2) := dk_21 4 (dk_at dksJ32_set_1 1 rfl rfl)
theorem dJ32_set_27 : decode cJ32_set 27 = .ok (.invokevirtual 155, 3) := dk_182 0 155 (dk_at dksJ32_set_1 3 rfl rfl)
theorem dJ32_set_30 : decode cJ32_set 30 = .ok (.ldc2_w 165, 3) := dk_20 0 165 (dk_at dksJ32_set_1 6 rfl rfl)
theorem dJ32_set_33 : decode cJ32_set 33 = .ok (.iload_n 1, 1) := dk_27 (dk_at dksJ32_set_1 9 rfl rfl)
theorem dJ32_set_34 : decode cJ32_set 34 = .ok (.lshl, 1) := dk_121 (dk_at dksJ32_set_1 10 rfl rfl)
theorem dJ32_set_35 : decode cJ32_set 35 = .ok (.lstore 5, 2) := dk_55 5 (dk_at dksJ32_set_1 11 rfl rfl)
theorem dJ32_set_37 : decode cJ32_set 37 = .ok (.ldc2_w 165, 3) := dk_20 0 165 (dk_at dksJ32_set_1 13 rfl rfl)
theorem dJ32_set_40 : decode cJ32_set 40 = .ok (.iload_n 2, 1) := dk_28 (dk_at dksJ32_set_1 16 rfl rfl)
theorem dJ32_set_41 : decode cJ32_set 41 = .ok (.ineg, 1) := dk_116 (dk_at dksJ32_set_1 17 rfl rfl)
theorem dJ32_set_42 : decode cJ32_set 42 = .ok (.lushr, 1) := dk_125 (dk_at dksJ32_set_1 18 rfl rfl)
theorem dJ32_set_43 : decode cJ32_set 43 = .ok (.lstore 7, 2) := dk_55 7 (dk_at dksJ32_set_1 19 rfl rfl)
theorem dJ32_set_45 : decode cJ32_set 45 = .ok (.iload_n 3, 1) := dk_29 (dk_at dksJ32_set_1 21 rfl rfl)
theorem dJ32_set_46 : decode cJ32_set 46 = .ok (.iload 4, 2) := dk_21 4 (dk_at dksJ32_set_1 22 rfl rfl)
theorem dJ32_set_48 : decode cJ32_set 48 = .ok (.if_icmp .ne 20, 3) := dk_160 0 20 (dk_at dksJ32_set_2 0 rfl rfl)
theorem dJ32_set_51 : decode cJ32_set 51 = .ok (.aload_n 0, 1) := dk_42 (dk_at dksJ32_set_2 3 rfl rfl)
theorem dJ32_set_52 : decode cJ32_set 52 = .ok (.getfield 11, 3) := dk_180 0 11 (dk_at dksJ32_set_2 4 rfl rfl)
theorem dJ32_set_55 : decode cJ32_set 55 = .ok (.iload_n 3, 1) := dk_29 (dk_at dksJ32_set_2 7 rfl rfl)
theorem dJ32_set_56 : decode cJ32_set 56 = .ok (.dup2, 1) := dk_92 (dk_at dksJ32_set_2 8 rfl rfl)
theorem dJ32_set_57 : decode cJ32_set 57 = .ok (.laload, 1) := dk_47 (dk_at dksJ32_set_2 9 rfl rfl)
theorem dJ32_set_58 : decode cJ32_set 58 = .ok (.lload 5, 2) := dk_22 5 (dk_at dksJ32_set_2 10 rfl rfl)
theorem dJ32_set_60 : decode cJ32_set 60 = .ok (.lload 7, 2) := dk_22 7 (dk_at dksJ32_set_2 12 rfl rfl)
theorem dJ32_set_62 : decode cJ32_set 62 = .ok (.land, 1) := dk_127 (dk_at dksJ32_set_2 14 rfl rfl)
theorem dJ32_set_63 : decode cJ32_set 63 = .ok (.lor, 1) := dk_129 (dk_at dksJ32_set_2 15 rfl rfl)
theorem dJ32_set_64 : decode cJ32_set 64 = .ok (.lastore, 1) := dk_80 (dk_at dksJ32_set_2 16 rfl rfl)
theorem dJ32_set_65 : decode cJ32_set 65 = .ok (.goto 54, 3) := dk_167 0 54 (dk_at dksJ32_set_2 17 rfl rfl)
theorem dJ32_set_68 : decode cJ32_set 68 = .ok (.aload_n 0, 1) := dk_42 (dk_at dksJ32_set_2 20 rfl rfl)
theorem dJ32_set_69 : decode cJ32_set 69 = .ok (.getfield 11, 3) := dk_180 0 11 (dk_at dksJ32_set_2 21 rfl rfl)
theorem dJ32_set_72 : decode cJ32_set 72 = .ok (.iload_n 3, 1) := dk_29 (dk_at dksJ32_set_3 0 rfl rfl)
theorem dJ32_set_73 : decode cJ32_set 73 = .ok (.dup2, 1) := dk_92 (dk_at dksJ32_set_3 1 rfl rfl)
theorem dJ32_set_74 : decode cJ32_set 74 = .ok (.laload, 1) := dk_47 (dk_at dksJ32_set_3 2 rfl rfl)
theorem dJ32_set_75 : decode cJ32_set 75 = .ok (.lload 5, 2) := dk_22 5 (dk_at dksJ32_set_3 3 rfl rfl)
theorem dJ32_set_77 : decode cJ32_set 77 = .ok (.lor, 1) := dk_129 (dk_at dksJ32_set_3 5 rfl rfl)
theorem dJ32_set_78 : decode cJ32_set 78 = .ok (.lastore, 1) := dk_80 (dk_at dksJ32_set_3 6 rfl rfl)
theorem dJ32_set_79 : decode cJ32_set 79 = .ok (.iload_n 3, 1) := dk_29 (dk_at dksJ32_set_3 7 rfl rfl)
theorem dJ32_set_80 : decode cJ32_set 80 = .ok (.iconst 1, 1) := dk_4 (dk_at dksJ32_set_3 8 rfl rfl)
theorem dJ32_set_81 : decode cJ32_set 81 = .ok (.iadd, 1) := dk_96 (dk_at dksJ32_set_3 9 rfl rfl)
theorem dJ32_set_82 : decode cJ32_set 82 = .ok (.istore 9, 2) := dk_54 9 (dk_at dksJ32_set_3 10 rfl rfl)
theorem dJ32_set_84 : decode cJ32_set 84 = .ok (.iload 9, 2) := dk_21 9 (dk_at dksJ32_set_3 12 rfl rfl)
theorem dJ32_set_86 : decode cJ32_set 86 = .ok (.iload 4, 2) := dk_21 4 (dk_at dksJ32_set_3 14 rfl rfl)
theorem dJ32_set_88 : decode cJ32_set 88 = .ok (.if_icmp .ge 19, 3) := dk_162 0 19 (dk_at dksJ32_set_3 16 rfl rfl)
theorem dJ32_set_91 : decode cJ32_set 91 = .ok (.aload_n 0, 1) := dk_42 (dk_at dksJ32_set_3 19 rfl rfl)
theorem dJ32_set_92 : decode cJ32_set 92 = .ok (.getfield 11, 3) := dk_180 0 11 (dk_at dksJ32_set_3 20 rfl rfl)
theorem dJ32_set_95 : decode cJ32_set 95 = .ok (.iload 9, 2) := dk_21 9 (dk_at dksJ32_set_4 0 rfl rfl)
theorem dJ32_set_97 : decode cJ32_set 97 = .ok (.ldc2_w 165, 3) := dk_20 0 165 (dk_at dksJ32_set_4 2 rfl rfl)
theorem dJ32_set_100 : decode cJ32_set 100 = .ok (.lastore, 1) := dk_80 (dk_at dksJ32_set_4 5 rfl rfl)
theorem dJ32_set_101 : decode cJ32_set 101 = .ok (.iinc 9 1, 3) := dk_132 9 1 (dk_at dksJ32_set_4 6 rfl rfl)
theorem dJ32_set_104 : decode cJ32_set 104 = .ok (.goto (-20), 3) := dk_167 255 236 (dk_at dksJ32_set_4 9 rfl rfl)
theorem dJ32_set_107 : decode cJ32_set 107 = .ok (.aload_n 0, 1) := dk_42 (dk_at dksJ32_set_4 12 rfl rfl)
theorem dJ32_set_108 : decode cJ32_set 108 = .ok (.getfield 11, 3) := dk_180 0 11 (dk_at dksJ32_set_4 13 rfl rfl)
theorem dJ32_set_111 : decode cJ32_set 111 = .ok (.iload 4, 2) := dk_21 4 (dk_at dksJ32_set_4 16 rfl rfl)
theorem dJ32_set_113 : decode cJ32_set 113 = .ok (.dup2, 1) := dk_92 (dk_at dksJ32_set_4 18 rfl rfl)
theorem dJ32_set_114 : decode cJ32_set 114 = .ok (.laload, 1) := dk_47 (dk_at dksJ32_set_4 19 rfl rfl)
theorem dJ32_set_115 : decode cJ32_set 115 = .ok (.lload 7, 2) := dk_22 7 (dk_at dksJ32_set_4 20 rfl rfl)
theorem dJ32_set_117 : decode cJ32_set 117 = .ok (.lor, 1) := dk_129 (dk_at dksJ32_set_4 22 rfl rfl)
theorem dJ32_set_118 : decode cJ32_set 118 = .ok (.lastore, 1) := dk_80 (dk_at dksJ32_set_4 23 rfl rfl)
theorem dJ32_set_119 : decode cJ32_set 119 = .ok (.aload_n 0, 1) := dk_42 (dk_at dksJ32_set_5 0 rfl rfl)
theorem dJ32_set_120 : decode cJ32_set 120 = .ok (.invokevirtual 56, 3) := dk_182 0 56 (dk_at dksJ32_set_5 1 rfl rfl)
theorem dJ32_set_123 : decode cJ32_set 123 = .ok (.return_, 1) := dk_177 (dk_at dksJ32_set_5 4 rfl rfl)
def dkwJ32_checkRange_4 : List UInt8 := [182, 0, 42, 182, 0, 45, 183, 0, 146, 191, 177]
abbrev dktJ32_checkRange_4 : List UInt8 := dkwJ32_checkRange_4 ++ []
def dkwJ32_checkRange_3 : List UInt8 := [187, 0, 33, 89, 183, 0, 35, 18, 149, 182, 0, 38, 26, 182, 0, 42, 18, 151, 182, 0, 38, 27]
abbrev dktJ32_checkRange_3 : List UInt8 := dkwJ32_checkRange_3 ++ dktJ32_checkRange_4
def dkwJ32_checkRange_2 : List UInt8 := [182, 0, 38, 27, 182, 0, 42, 182, 0, 45, 183, 0, 146, 191, 26, 27, 164, 0, 39, 187, 0, 142, 89]
abbrev dktJ32_checkRange_2 : List UInt8 := dkwJ32_checkRange_2 ++ dktJ32_checkRange_3
def dkwJ32_checkRange_1 : List UInt8 := [182, 0, 45, 183, 0, 146, 191, 27, 156, 0, 30, 187, 0, 142, 89, 187, 0, 33, 89, 183, 0, 35, 18, 147]
abbrev dktJ32_checkRange_1 : List UInt8 := dkwJ32_checkRange_1 ++ dktJ32_checkRange_2
def dkwJ32_checkRange_0 : List UInt8 := [26, 156, 0, 30, 187, 0, 142, 89, 187, 0, 33, 89, 183, 0, 35, 18, 144, 182, 0, 38, 26, 182, 0, 42]
abbrev dktJ32_checkRange_0 : List UInt8 := dkwJ32_checkRange_0 ++ dktJ32_checkRange_1
theorem dksJ32_checkRange_0 : cJ32_checkRange.data.toList.drop 0 = dktJ32_checkRange_0 := by decide +kernel
theorem dksJ32_checkRange_1 : cJ32_checkRange.data.toList.drop 24 = dktJ32_checkRange_1 := dk_seg dksJ32_checkRange_0 24 rfl rfl
theorem dksJ32_checkRange_2 : cJ32_checkRange.data.toList.drop 48 = dktJ32_checkRange_2 := dk_seg dksJ32_checkRange_1 24 rfl rfl
theorem dksJ32_checkRange_3 : cJ32_checkRange.data.toList.drop 71 = dktJ32_checkRange_3 := dk_seg dksJ32_checkRange_2 23 rfl rfl
theorem dksJ32_checkRange_4 : cJ32_checkRange.data.toList.drop 93 = dktJ32_checkRange_4 := dk_seg dksJ32_checkRange_3 22 rfl rfl
theorem dJ32_checkRange_0 : decode cJ32_checkRange 0 = .ok (.iload_n 0, 1) := dk_26 (dk_at dksJ32_checkRange_0 0 rfl rfl)
theorem dJ32_checkRange_1 : decode cJ32_checkRange 1 = .ok (.ifCond .ge 30, 3) := dk_156 0 30 (dk_at dksJ32_checkRange_0 1 rfl rfl)
theorem dJ32_checkRange_4 : decode cJ32_checkRange 4 = .ok (.new 142, 3) := dk_187 0 142 (dk_at dksJ32_checkRange_0 4 rfl rfl)
theorem dJ32_checkRange_7 : decode cJ32_checkRange 7 = .ok (.dup, 1) := dk_89 (dk_at dksJ32_checkRange_0 7 rfl rfl)
theorem dJ32_checkRange_8 : decode cJ32_checkRange 8 = .ok (.new 33, 3) := dk_187 0 33 (dk_at dksJ32_checkRange_0 8 rfl rfl)
theorem dJ32_checkRange_11 : decode cJ32_checkRange 11 = .ok (.dup, 1) := dk_89 (dk_at dksJ32_checkRange_0 11 rfl rfl)
theorem dJ32_checkRange_12 : decode cJ32_checkRange 12 = .ok (.invokespecial 35, 3) := dk_183 0 35 (dk_at dksJ32_checkRange_0 12 rfl rfl)
theorem dJ32_checkRange_15 : decode cJ32_checkRange 15 = .ok (.ldc 144, 2) := dk_18 144 (dk_at dksJ32_checkRange_0 15 rfl rfl)
theorem dJ32_checkRange_17 : decode cJ32_checkRange 17 = .ok (.invokevirtual 38, 3) := dk_182 0 38 (dk_at dksJ32_checkRange_0 17 rfl rfl)
theorem dJ32_checkRange_20 : decode cJ32_checkRange 20 = .ok (.iload_n 0, 1) := dk_26 (dk_at dksJ32_checkRange_0 20 rfl rfl)
theorem dJ32_checkRange_21 : decode cJ32_checkRange 21 = .ok (.invokevirtual 42, 3) := dk_182 0 42 (dk_at dksJ32_checkRange_0 21 rfl rfl)
theorem dJ32_checkRange_24 : decode cJ32_checkRange 24 = .ok (.invokevirtual 45, 3) := dk_182 0 45 (dk_at dksJ32_checkRange_1 0 rfl rfl)
theorem dJ32_checkRange_27 : decode cJ32_checkRange 27 = .ok (.invokespecial 146, 3) := dk_183 0 146 (dk_at dksJ32_checkRange_1 3 rfl rfl)
theorem dJ32_checkRange_30 : decode cJ32_checkRange 30 = .ok (.athrow, 1) := dk_191 (dk_at dksJ32_checkRange_1 6 rfl rfl)
theorem dJ32_checkRange_31 : decode cJ32_checkRange 31 = .ok (.iload_n 1, 1) := dk_27 (dk_at dksJ32_checkRange_1 7 rfl rfl)
theorem dJ32_checkRange_32 : decode cJ32_checkRange 32 = .ok (.ifCond .ge 30, 3) := dk_156 0 30 (dk_at dksJ32_checkRange_1 8 rfl rfl)
theorem dJ32_checkRange_35 : decode cJ32_checkRange 35 = .ok (.new 142, 3) := dk_187 0 142 (dk_at dksJ32_checkRange_1 11 rfl rfl)
theorem dJ32_checkRange_38 : decode cJ32_checkRange 38 = .ok (.dup, 1) := dk_89 (dk_at dksJ32_checkRange_1 14 rfl rfl)
theorem dJ32_checkRange_39 : decode cJ32_checkRange 39 = .ok (.new 33, 3) := dk_187 0 33 (dk_at dksJ32_checkRange_1 15 rfl rfl)
theorem dJ32_checkRange_42 : decode cJ32_checkRange 42 = .ok (.dup, 1) := dk_89 (dk_at dksJ32_checkRange_1 18 rfl rfl)
theorem dJ32_checkRange_43 : decode cJ32_checkRange 43 = .ok (.invokespecial 35, 3) := dk_183 0 35 (dk_at dksJ32_checkRange_1 19 rfl rfl)
theorem dJ32_checkRange_46 : decode cJ32_checkRange 46 = .ok (.ldc 147, 2) := dk_18 147 (dk_at dksJ32_checkRange_1 22 rfl rfl)
theorem dJ32_checkRange_48 : decode cJ32_checkRange 48 = .ok (.invokevirtual 38, 3) := dk_182 0 38 (dk_at dksJ32_checkRange_2 0 rfl rfl)
theorem dJ32_checkRange_51 : decode cJ32_checkRange 51 = .ok (.iload_n 1, 1) := dk_27 (dk_at dksJ32_checkRange_2 3 rfl rfl)
theorem dJ32_checkRange_52 : decode cJ32_checkRange 52 = .ok (.invokevirtual 42, 3) := dk_182 0 42 (dk_at dksJ32_checkRange_2 4 rfl rfl)
theorem dJ32_checkRange_55 : decode cJ32_checkRange 55 = .ok (.invokevirtual 45, 3) := dk_182 0 45 (dk_at dksJ32_checkRange_2 7 rfl rfl)
theorem dJ32_checkRange_58 : decode cJ32_checkRange 58 = .ok (.invokespecial 146, 3) := dk_183 0 146 (dk_at dksJ32_checkRange_2 10 rfl rfl)
theorem dJ32_checkRange_61 : decode cJ32_checkRange 61 = .ok (.athrow, 1) := dk_191 (dk_at dksJ32_checkRange_2 13 rfl rfl)
theorem dJ32_checkRange_62 : decode cJ32_checkRange 62 = .ok (.iload_n 0, 1) := dk_26 (dk_at dksJ32_checkRange_2 14 rfl rfl)
theorem dJ32_checkRange_63 : decode cJ32_checkRange 63 = .ok (.iload_n 1, 1) := dk_27 (dk_at dksJ32_checkRange_2 15 rfl rfl)
theorem dJ32_checkRange_64 : decode cJ32_checkRange 64 = .ok (.if_icmp .le 39, 3) := dk_164 0 39 (dk_at dksJ32_checkRange_2 16 rfl rfl)
theorem dJ32_checkRange_67 : decode cJ32_checkRange 67 = .ok (.new 142, 3) := dk_187 0 142 (dk_at dksJ32_checkRange_2 19 rfl rfl)
theorem dJ32_checkRange_70 : decode cJ32_checkRange 70 = .ok (.dup, 1) := dk_89 (dk_at dksJ32_checkRange_2 22 rfl rfl)
theorem dJ32_checkRange_71 : decode cJ32_checkRange 71 = .ok (.new 33, 3) := dk_187 0 33 (dk_at dksJ32_checkRange_3 0 rfl rfl)
theorem dJ32_checkRange_74 : decode cJ32_checkRange 74 = .ok (.dup, 1) := dk_89 (dk_at dksJ32_checkRange_3 3 rfl rfl)
theorem dJ32_checkRange_75 : decode cJ32_checkRange 75 = .ok (.invokespecial 35, 3) := dk_183 0 35 (dk_at dksJ32_checkRange_3 4 rfl rfl)
theorem dJ32_checkRange_78 : decode cJ32_checkRange 78 = .ok (.ldc 149, 2) := dk_18 149 (dk_at dksJ32_checkRange_3 7 rfl rfl)
theorem dJ32_checkRange_80 : decode cJ32_checkRange 80 = .ok (.invokevirtual 38, 3) := dk_182 0 38 (dk_at dksJ32_checkRange_3 9 rfl rfl)
theorem dJ32_checkRange_83 : decode cJ32_checkRange 83 = .ok (.iload_n 0, 1) := dk_26 (dk_at dksJ32_checkRange_3 12 rfl rfl)
theorem dJ32_checkRange_84 : decode cJ32_checkRange 84 = .ok (.invokevirtual 42, 3) := dk_182 0 42 (dk_at dksJ32_checkRange_3 13 rfl rfl)
theorem dJ32_checkRange_87 : decode cJ32_checkRange 87 = .ok (.ldc 151, 2) := dk_18 151 (dk_at dksJ32_checkRange_3 16 rfl rfl)
theorem dJ32_checkRange_89 : decode cJ32_checkRange 89 = .ok (.invokevirtual 38, 3) := dk_182 0 38 (dk_at dksJ32_checkRange_3 18 rfl rfl)
theorem dJ32_checkRange_92 : decode cJ32_checkRange 92 = .ok (.iload_n 1, 1) := dk_27 (dk_at dksJ32_checkRange_3 21 rfl rfl)
theorem dJ32_checkRange_93 : decode cJ32_checkRange 93 = .ok (.invokevirtual 42, 3) := dk_182 0 42 (dk_at dksJ32_checkRange_4 0 rfl rfl)
theorem dJ32_checkRange_96 : decode cJ32_checkRange 96 = .ok (.invokevirtual 45, 3) := dk_182 0 45 (dk_at dksJ32_checkRange_4 3 rfl rfl)
theorem dJ32_checkRange_99 : decode cJ32_checkRange 99 = .ok (.invokespecial 146, 3) := dk_183 0 146 (dk_at dksJ32_checkRange_4 6 rfl rfl)
theorem dJ32_checkRange_102 : decode cJ32_checkRange 102 = .ok (.athrow, 1) := dk_191 (dk_at dksJ32_checkRange_4 9 rfl rfl)
theorem dJ32_checkRange_103 : decode cJ32_checkRange 103 = .ok (.return_, 1) := dk_177 (dk_at dksJ32_checkRange_4 10 rfl rfl)
def dkwJ32_expandTo_0 : List UInt8 := [27, 4, 96, 61, 42, 180, 0, 7, 28, 162, 0, 13, 42, 28, 182, 0, 139, 42, 28, 181, 0, 7, 177]
abbrev dktJ32_expandTo_0 : List UInt8 := dkwJ32_expandTo_0 ++ []
theorem dksJ32_expandTo_0 : cJ32_expandTo.data.toList.drop 0 = dktJ32_expandTo_0 := by decide +kernel
theorem dJ32_expandTo_0 : decode cJ32_expandTo 0 = .ok (.iload_n 1, 1) := dk_27 (dk_at dksJ32_expandTo_0 0 rfl rfl)
theorem dJ32_expandTo_1 : decode cJ32_expandTo 1 = .ok (.iconst 1, 1) := dk_4 (dk_at dksJ32_expandTo_0 1 rfl rfl)
theorem dJ32_expandTo_2 : decode cJ32_expandTo 2 = .ok (.iadd, 1) := dk_96 (dk_at dksJ32_expandTo_0 2 rfl rfl)
theorem dJ32_expandTo_3 : decode cJ32_expandTo 3 = .ok (.istore_n 2, 1) := dk_61 (dk_at dksJ32_expandTo_0 3 rfl rfl)
theorem dJ32_expandTo_4 : decode cJ32_expandTo 4 = .ok (.aload_n 0, 1) := dk_42 (dk_at dksJ32_expandTo_0 4 rfl rfl)
theorem dJ32_expandTo_5 : decode cJ32_expandTo 5 = .ok (.getfield 7, 3) := dk_180 0 7 (dk_at dksJ32_expandTo_0 5 rfl rfl)
theorem dJ32_expandTo_8 : decode cJ32_expandTo 8 = .ok (.iload_n 2, 1) := dk_28 (dk_at dksJ32_expandTo_0 8 rfl rfl)
theorem dJ32_expandTo_9 : decode cJ32_expandTo 9 = .ok (.if_icmp .ge 13, 3) := dk_162 0 13 (dk_at dksJ32_expandTo_0 9 rfl rfl)
theorem dJ32_expandTo_12 : decode cJ32_expandTo 12 = .ok (.aload_n 0, 1) := dk_42 (dk_at dksJ32_expandTo_0 12 rfl rfl)
theorem dJ32_expandTo_13 : decode cJ32_expandTo 13 = .ok (.iload_n 2, 1) := dk_28 (dk_at dksJ32_expandTo_0 13 rfl rfl)
theorem dJ32_expandTo_14 : decode cJ32_expandTo 14 = .ok (.invokevirtual 139, 3) := dk_182 0 139 (dk_at dksJ32_expandTo_0 14 rfl rfl)
theorem dJ32_expandTo_17 : decode cJ32_expandTo 17 = .ok (.aload_n 0, 1) := dk_42 (dk_at dksJ32_expandTo_0 17 rfl rfl)
theorem dJ32_expandTo_18 : decode cJ32_expandTo 18 = .ok (.iload_n 2, 1) := dk_28 (dk_at dksJ32_expandTo_0 18 rfl rfl)
theorem dJ32_expandTo_19 : decode cJ32_expandTo 19 = .ok (.putfield 7, 3) := dk_181 0 7 (dk_at dksJ32_expandTo_0 19 rfl rfl)
theorem dJ32_expandTo_22 : decode cJ32_expandTo 22 = .ok (.return_, 1) := dk_177 (dk_at dksJ32_expandTo_0 22 rfl rfl)
def dkwJ32_ensureCapacity_1 : List UInt8 := [180, 0, 11, 28, 184, 0, 59, 181, 0, 11, 42, 3, 181, 0, 24, 177]
abbrev dktJ32_ensureCapacity_1 : List UInt8 := dkwJ32_ensureCapacity_1 ++ []
def dkwJ32_ensureCapacity_0 : List UInt8 := [42, 180, 0, 11, 190, 27, 162, 0, 32, 5, 42, 180, 0, 11, 190, 104, 27, 184, 0, 133, 61, 42, 42]
abbrev dktJ32_ensureCapacity_0 : List UInt8 := dkwJ32_ensureCapacity_0 ++ dktJ32_ensureCapacity_1
theorem dksJ32_ensureCapacity_0 : cJ32_ensureCapacity.data.toList.drop 0 = dktJ32_ensureCapacity_0 := by decide +kernel
theorem dksJ32_ensureCapacity_1 : cJ32_ensureCapacity.data.toList.drop 23 = dktJ32_ensureCapacity_1 := dk_seg dksJ32_ensureCapacity_0 23 rfl rfl
theorem dJ32_ensureCapacity_0 : decode cJ32_ensureCapacity 0 = .ok (.aload_n 0, 1) := dk_42 (dk_at dksJ32_ensureCapacity_0 0 rfl rfl)
theorem dJ32_ensureCapacity_1 : decode cJ32_ensureCapacity 1 = .ok (.getfield 11, 3) := dk_180 0 11 (dk_at dksJ32_ensureCapacity_0 1 rfl rfl)
theorem dJ32_ensureCapacity_4 : decode cJ32_ensureCapacity 4 = .ok (.arraylength, 1) := dk_190 (dk_at dksJ32_ensureCapacity_0 4 rfl rfl)
theorem dJ32_ensureCapacity_5 : decode cJ32_ensureCapacity 5 = .ok (.iload_n 1, 1) := dk_27 (dk_at dksJ32_ensureCapacity_0 5 rfl rfl)
theorem dJ32_ensureCapacity_6 : decode cJ32_ensureCapacity 6 = .ok (.if_icmp .ge 32, 3) := dk_162 0 32 (dk_at dksJ32_ensureCapacity_0 6 rfl rfl)
theorem dJ32_ensureCapacity_9 : decode cJ32_ensureCapacity 9 = .ok (.iconst 2, 1) := dk_5 (dk_at dksJ32_ensureCapacity_0 9 rfl rfl)
theorem dJ32_ensureCapacity_10 : decode cJ32_ensureCapacity 10 = .ok (.aload_n 0, 1) := dk_42 (dk_at dksJ32_ensureCapacity_0 10 rfl rfl)
theorem dJ32_ensureCapacity_11 : decode cJ32_ensureCapacity 11 = .ok (.getfield 11, 3) := dk_180 0 11 (dk_at dksJ32_ensureCapacity_0 11 rfl rfl)
theorem dJ32_ensureCapacity_14 : decode cJ32_ensureCapacity 14 = .ok (.arraylength, 1) := dk_190 (dk_at dksJ32_ensureCapacity_0 14 rfl rfl)
theorem dJ32_ensureCapacity_15 : decode cJ32_ensureCapacity 15 = .ok (.imul, 1) := dk_104 (dk_at dksJ32_ensureCapacity_0 15 rfl rfl)
theorem dJ32_ensureCapacity_16 : decode cJ32_ensureCapacity 16 = .ok (.iload_n 1, 1) := dk_27 (dk_at dksJ32_ensureCapacity_0 16 rfl rfl)
theorem dJ32_ensureCapacity_17 : decode cJ32_ensureCapacity 17 = .ok (.invokestatic 133, 3) := dk_184 0 133 (dk_at dksJ32_ensureCapacity_0 17 rfl rfl)
theorem dJ32_ensureCapacity_20 : decode cJ32_ensureCapacity 20 = .ok (.istore_n 2, 1) := dk_61 (dk_at dksJ32_ensureCapacity_0 20 rfl rfl)
theorem dJ32_ensureCapacity_21 : decode cJ32_ensureCapacity 21 = .ok (.aload_n 0, 1) := dk_42 (dk_at dksJ32_ensureCapacity_0 21 rfl rfl)
theorem dJ32_ensureCapacity_22 : decode cJ32_ensureCapacity 22 = .ok (.aload_n 0, 1) := dk_42 (dk_at dksJ32_ensureCapacity_0 22 rfl rfl)
theorem dJ32_ensureCapacity_23 : decode cJ32_ensureCapacity 23 = .ok (.getfield 11, 3) := dk_180 0 11 (dk_at dksJ32_ensureCapacity_1 0 rfl rfl)
theorem dJ32_ensureCapacity_26 : decode cJ32_ensureCapacity 26 = .ok (.iload_n 2, 1) := dk_28 (dk_at dksJ32_ensureCapacity_1 3 rfl rfl)
theorem dJ32_ensureCapacity_27 : decode cJ32_ensureCapacity 27 = .ok (.invokestatic 59, 3) := dk_184 0 59 (dk_at dksJ32_ensureCapacity_1 4 rfl rfl)
theorem dJ32_ensureCapacity_30 : decode cJ32_ensureCapacity 30 = .ok (.putfield 11, 3) := dk_181 0 11 (dk_at dksJ32_ensureCapacity_1 7 rfl rfl)
theorem dJ32_ensureCapacity_33 : decode cJ32_ensureCapacity 33 = .ok (.aload_n 0, 1) := dk_42 (dk_at dksJ32_ensureCapacity_1 10 rfl rfl)
theorem dJ32_ensureCapacity_34 : decode cJ32_ensureCapacity 34 = .ok (.iconst 0, 1) := dk_3 (dk_at dksJ32_ensureCapacity_1 11 rfl rfl)
theorem dJ32_ensureCapacity_35 : decode cJ32_ensureCapacity 35 = .ok (.putfield 24, 3) := dk_181 0 24 (dk_at dksJ32_ensureCapacity_1 12 rfl rfl)
theorem dJ32_ensureCapacity_38 : decode cJ32_ensureCapacity 38 = .ok (.return_, 1) := dk_177 (dk_at dksJ32_ensureCapacity_1 15 rfl rfl)
def dkwJ32_checkInvariants_4 : List UInt8 := [180, 0, 7, 47, 9, 148, 153, 0, 11, 187, 0, 15, 89, 183, 0, 17, 191, 177]
abbrev dktJ32_checkInvariants_4 : List UInt8 := dkwJ32_checkInvariants_4 ++ []
def dkwJ32_checkInvariants_3 : List UInt8 := [178, 0, 3, 154, 0, 37, 42, 180, 0, 7, 42, 180, 0, 11, 190, 159, 0, 25, 42, 180, 0, 11, 42]
abbrev dktJ32_checkInvariants_3 : List UInt8 := dkwJ32_checkInvariants_3 ++ dktJ32_checkInvariants_4
def dkwJ32_checkInvariants_2 : List UInt8 := [155, 0, 15, 42, 180, 0, 7, 42, 180, 0, 11, 190, 164, 0, 11, 187, 0, 15, 89, 183, 0, 17, 191]
abbrev dktJ32_checkInvariants_2 : List UInt8 := dkwJ32_checkInvariants_2 ++ dktJ32_checkInvariants_3
def dkwJ32_checkInvariants_1 : List UInt8 := [9, 148, 154, 0, 11, 187, 0, 15, 89, 183, 0, 17, 191, 178, 0, 3, 154, 0, 30, 42, 180, 0, 7]
abbrev dktJ32_checkInvariants_1 : List UInt8 := dkwJ32_checkInvariants_1 ++ dktJ32_checkInvariants_2
def dkwJ32_checkInvariants_0 : List UInt8 := [178, 0, 3, 154, 0, 34, 42, 180, 0, 7, 153, 0, 27, 42, 180, 0, 11, 42, 180, 0, 7, 4, 100, 47]
abbrev dktJ32_checkInvariants_0 : List UInt8 := dkwJ32_checkInvariants_0 ++ dktJ32_checkInvariants_1
theorem dksJ32_checkInvariants_0 : cJ32_checkInvariants.data.toList.drop 0 = dktJ32_checkInvariants_0 := by decide +kernel
theorem dksJ32_checkInvariants_1 : cJ32_checkInvariants.data.toList.drop 24 = dktJ32_checkInvariants_1 := dk_seg dksJ32_checkInvariants_0 24 rfl rfl
theorem dksJ32_checkInvariants_2 : cJ32_checkInvariants.data.toList.drop 47 = dktJ32_checkInvariants_2 := dk_seg dksJ32_checkInvariants_1 23 rfl rfl
theorem dksJ32_checkInvariants_3 : cJ32_checkInvariants.data.toList.drop 70 = dktJ32_checkInvariants_3 := dk_seg dksJ32_checkInvariants_2 23 rfl rfl
theorem dksJ32_checkInvariants_4 : cJ32_checkInvariants.data.toList.drop 93 = dktJ32_checkInvariants_4 := dk_seg dksJ32_checkInvariants_3 23 rfl rfl
theorem dJ32_checkInvariants_0 : decode cJ32_checkInvariants 0 = .ok (.getstatic 3, 3) := dk_178 0 3 (dk_at dksJ32_checkInvariants_0 0 rfl rfl)
theorem dJ32_checkInvariants_3 : decode cJ32_checkInvariants 3 = .ok (.ifCond .ne 34, 3) := dk_154 0 34 (dk_at dksJ32_checkInvariants_0 3 rfl rfl)
theorem dJ32_checkInvariants_6 : decode cJ32_checkInvariants 6 = .ok (.aload_n 0, 1) := dk_42 (dk_at dksJ32_checkInvariants_0 6 rfl rfl)
theorem dJ32_checkInvariants_7 : decode cJ32_checkInvariants 7 = .ok (.getfield 7, 3) := dk_180 0 7 (dk_at dksJ32_checkInvariants_0 7 rfl rfl)
theorem dJ32_checkInvariants_10 : decode cJ32_checkInvariants 10 = .ok (.ifCond .eq 27, 3) := dk_153 0 27 (dk_at dksJ32_checkInvariants_0 10 rfl rfl)
theorem dJ32_checkInvariants_13 : decode cJ32_checkInvariants 13 = .ok (.aload_n 0, 1) := dk_42 (dk_at dksJ32_checkInvariants_0 13 rfl rfl)
theorem dJ32_checkInvariants_14 : decode cJ32_checkInvariants 14 = .ok (.getfield 11, 3) := dk_180 0 11 (dk_at dksJ32_checkInvariants_0 14 rfl rfl)
theorem dJ32_checkInvariants_17 : decode cJ32_checkInvariants 17 = .ok (.aload_n 0, 1) := dk_42 (dk_at dksJ32_checkInvariants_0 17 rfl rfl)
theorem dJ32_checkInvariants_18 : decode cJ32_checkInvariants 18 = .ok (.getfield 7, 3) := dk_180 0 7 (dk_at dksJ32_checkInvariants_0 18 rfl rfl)
theorem dJ32_checkInvariants_21 : decode cJ32_checkInvariants 21 = .ok (.iconst 1, 1) := dk_4 (dk_at dksJ32_checkInvariants_0 21 rfl rfl)
theorem dJ32_checkInvariants_22 : decode cJ32_checkInvariants 22 = .ok (.isub, 1) := dk_100 (dk_at dksJ32_checkInvariants_0 22 rfl rfl)
theorem dJ32_checkInvariants_23 : decode cJ32_checkInvariants 23 = .ok (.laload, 1) := dk_47 (dk_at dksJ32_checkInvariants_0 23 rfl rfl)
theorem dJ32_checkInvariants_24 : decode cJ32_checkInvariants 24 = .ok (.lconst 0, 1) := dk_9 (dk_at dksJ32_checkInvariants_1 0 rfl rfl)
theorem dJ32_checkInvariants_25 : decode cJ32_checkInvariants 25 = .ok (.lcmp, 1) := dk_148 (dk_at dksJ32_checkInvariants_1 1 rfl rfl)
theorem dJ32_checkInvariants_26 : decode cJ32_checkInvariants 26 = .ok (.ifCond .ne 11, 3) := dk_154 0 11 (dk_at dksJ32_checkInvariants_1 2 rfl rfl)
theorem dJ32_checkInvariants_29 : decode cJ32_checkInvariants 29 = .ok (.new 15, 3) := dk_187 0 15 (dk_at dksJ32_checkInvariants_1 5 rfl rfl)
theorem dJ32_checkInvariants_32 : decode cJ32_checkInvariants 32 = .ok (.dup, 1) := dk_89 (dk_at dksJ32_checkInvariants_1 8 rfl rfl)
theorem dJ32_checkInvariants_33 : decode cJ32_checkInvariants 33 = .ok (.invokespecial 17, 3) := dk_183 0 17 (dk_at dksJ32_checkInvariants_1 9 rfl rfl)
theorem dJ32_checkInvariants_36 : decode cJ32_checkInvariants 36 = .ok (.athrow, 1) := dk_191 (dk_at dksJ32_checkInvariants_1 12 rfl rfl)
theorem dJ32_checkInvariants_37 : decode cJ32_checkInvariants 37 = .ok (.getstatic 3, 3) := dk_178 0 3 (dk_at dksJ32_checkInvariants_1 13 rfl rfl)
theorem dJ32_checkInvariants_40 : decode cJ32_checkInvariants 40 = .ok (.ifCond .ne 30, 3) := dk_154 0 30 (dk_at dksJ32_checkInvariants_1 16 rfl rfl)
theorem dJ32_checkInvariants_43 : decode cJ32_checkInvariants 43 = .ok (.aload_n 0, 1) := dk_42 (dk_at dksJ32_checkInvariants_1 19 rfl rfl)
theorem dJ32_checkInvariants_44 : decode cJ32_checkInvariants 44 = .ok (.getfield 7, 3) := dk_180 0 7 (dk_at dksJ32_checkInvariants_1 20 rfl rfl)
theorem dJ32_checkInvariants_47 : decode cJ32_checkInvariants 47 = .ok (.ifCond .lt 15, 3) := dk_155 0 15 (dk_at dksJ32_checkInvariants_2 0 rfl rfl)
theorem dJ32_checkInvariants_50 : decode cJ32_checkInvariants 50 = .ok (.aload_n 0, 1) := dk_42 (dk_at dksJ32_checkInvariants_2 3 rfl rfl)
theorem dJ32_checkInvariants_51 : decode cJ32_checkInvariants 51 = .ok (.getfield 7, 3) := dk_180 0 7 (dk_at dksJ32_checkInvariants_2 4 rfl rfl)
theorem dJ32_checkInvariants_54 : decode cJ32_checkInvariants 54 = .ok (.aload_n 0, 1) := dk_42 (dk_at dksJ32_checkInvariants_2 7 rfl rfl)
theorem dJ32_checkInvariants_55 : decode cJ32_checkInvariants 55 = .ok (.getfield 11, 3) := dk_180 0 11 (dk_at dksJ32_checkInvariants_2 8 rfl rfl)
theorem dJ32_checkInvariants_58 : decode cJ32_checkInvariants 58 = .ok (.arraylength, 1) := dk_190 (dk_at dksJ32_checkInvariants_2 11 rfl rfl)
theorem dJ32_checkInvariants_59 : decode cJ32_checkInvariants 59 = .ok (.if_icmp .le 11, 3) := dk_164 0 11 (dk_at dksJ32_checkInvariants_2 12 rfl rfl)
theorem dJ32_checkInvariants_62 : decode cJ32_checkInvariants 62 = .ok (.new 15, 3) := dk_187 0 15 (dk_at dksJ32_checkInvariants_2 15 rfl rfl)
theorem dJ32_checkInvariants_65 : decode cJ32_checkInvariants 65 = .ok (.dup, 1) := dk_89 (dk_at dksJ32_checkInvariants_2 18 rfl rfl)
theorem dJ32_checkInvariants_66 : decode cJ32_checkInvariants 66 = .ok (.invokespecial 17, 3) := dk_183 0 17 (dk_at dksJ32_checkInvariants_2 19 rfl rfl)
theorem dJ32_checkInvariants_69 : decode cJ32_checkInvariants 69 = .ok (.athrow, 1) := dk_191 (dk_at dksJ32_checkInvariants_2 22 rfl rfl)
theorem dJ32_checkInvariants_70 : decode cJ32_checkInvariants 70 = .ok (.getstatic 3, 3) := dk_178 0 3 (dk_at dksJ32_checkInvariants_3 0 rfl rfl)
theorem dJ32_checkInvariants_73 : decode cJ32_checkInvariants 73 = .ok (.ifCond .ne 37, 3) := dk_154 0 37 (dk_at dksJ32_checkInvariants_3 3 rfl rfl)
theorem dJ32_checkInvariants_76 : decode cJ32_checkInvariants 76 = .ok (.aload_n 0, 1) := dk_42 (dk_at dksJ32_checkInvariants_3 6 rfl rfl)
theorem dJ32_checkInvariants_77 : decode cJ32_checkInvariants 77 = .ok (.getfield 7, 3) := dk_180 0 7 (dk_at dksJ32_checkInvariants_3 7 rfl rfl)
theorem dJ32_checkInvariants_80 : decode cJ32_checkInvariants 80 = .ok (.aload_n 0, 1) := dk_42 (dk_at dksJ32_checkInvariants_3 10 rfl rfl)
theorem dJ32_checkInvariants_81 : decode cJ32_checkInvariants 81 = .ok (.getfield 11, 3) := dk_180 0 11 (dk_at dksJ32_checkInvariants_3 11 rfl rfl)
theorem dJ32_checkInvariants_84 : decode cJ32_checkInvariants 84 = .ok (.arraylength, 1) := dk_190 (dk_at dksJ32_checkInvariants_3 14 rfl rfl)
theorem dJ32_checkInvariants_85 : decode cJ32_checkInvariants 85 = .ok (.if_icmp .eq 25, 3) := dk_159 0 25 (dk_at dksJ32_checkInvariants_3 15 rfl rfl)
theorem dJ32_checkInvariants_88 : decode cJ32_checkInvariants 88 = .ok (.aload_n 0, 1) := dk_42 (dk_at dksJ32_checkInvariants_3 18 rfl rfl)
theorem dJ32_checkInvariants_89 : decode cJ32_checkInvariants 89 = .ok (.getfield 11, 3) := dk_180 0 11 (dk_at dksJ32_checkInvariants_3 19 rfl rfl)
theorem dJ32_checkInvariants_92 : decode cJ32_checkInvariants 92 = .ok (.aload_n 0, 1) := dk_42 (dk_at dksJ32_checkInvariants_3 22 rfl rfl)
theorem dJ32_checkInvariants_93 : decode cJ32_checkInvariants 93 = .ok (.getfield 7, 3) := dk_180 0 7 (dk_at dksJ32_checkInvariants_4 0 rfl rfl)
theorem dJ32_checkInvariants_96 : decode cJ32_checkInvariants 96 = .ok (.laload, 1) := dk_47 (dk_at dksJ32_checkInvariants_4 3 rfl rfl)
theorem dJ32_checkInvariants_97 : decode cJ32_checkInvariants 97 = .ok (.lconst 0, 1) := dk_9 (dk_at dksJ32_checkInvariants_4 4 rfl rfl)
theorem dJ32_checkInvariants_98 : decode cJ32_checkInvariants 98 = .ok (.lcmp, 1) := dk_148 (dk_at dksJ32_checkInvariants_4 5 rfl rfl)
theorem dJ32_checkInvariants_99 : decode cJ32_checkInvariants 99 = .ok (.ifCond .eq 11, 3) := dk_153 0 11 (dk_at dksJ32_checkInvariants_4 6 rfl rfl)
theorem dJ32_checkInvariants_102 : decode cJ32_checkInvariants 102 = .ok (.new 15, 3) := dk_187 0 15 (dk_at dksJ32_checkInvariants_4 9 rfl rfl)
theorem dJ32_checkInvariants_105 : decode cJ32_checkInvariants 105 = .ok (.dup, 1) := dk_89 (dk_at dksJ32_checkInvariants_4 12 rfl rfl)
theorem dJ32_checkInvariants_106 : decode cJ32_checkInvariants 106 = .ok (.invokespecial 17, 3) := dk_183 0 17 (dk_at dksJ32_checkInvariants_4 13 rfl rfl)
theorem dJ32_checkInvariants_109 : decode cJ32_checkInvariants 109 = .ok (.athrow, 1) := dk_191 (dk_at dksJ32_checkInvariants_4 16 rfl rfl)
theorem dJ32_checkInvariants_110 : decode cJ32_checkInvariants 110 = .ok (.return_, 1) := dk_177 (dk_at dksJ32_checkInvariants_4 17 rfl rfl)
def dkwJ32_clear_2 : List UInt8 := [180, 0, 11, 28, 92, 47, 10, 27, 121, 20, 0, 165, 131, 127, 80, 42, 182, 0, 158, 42, 182, 0, 56, 177]
abbrev dktJ32_clear_2 : List UInt8 := dkwJ32_clear_2 ++ []
def dkwJ32_clear_1 : List UInt8 := [182, 0, 45, 183, 0, 146, 191, 27, 184, 0, 52, 61, 28, 42, 180, 0, 7, 161, 0, 4, 177, 42]
abbrev dktJ32_clear_1 : List UInt8 := dkwJ32_clear_1 ++ dktJ32_clear_2
def dkwJ32_clear_0 : List UInt8 := [27, 156, 0, 30, 187, 0, 142, 89, 187, 0, 33, 89, 183, 0, 35, 18, 153, 182, 0, 38, 27, 182, 0, 42]
abbrev dktJ32_clear_0 : List UInt8 := dkwJ32_clear_0 ++ dktJ32_clear_1
theorem dksJ32_clear_0 : cJ32_clear.data.toList.drop 0 = dktJ32_clear_0 := by decide +kernel
theorem dksJ32_clear_1 : cJ32_clear.data.toList.drop 24 = dktJ32_clear_1 := dk_seg dksJ32_clear_0 24 rfl rfl
theorem dksJ32_clear_2 : cJ32_clear.data.toList.drop 46 = dktJ32_clear_2 := dk_seg dksJ32_clear_1 22 rfl rfl
theorem dJ32_clear_0 : decode cJ32_clear 0 = .ok (.iload_n 1, 1) := dk_27 (dk_at dksJ32_clear_0 0 rfl rfl)
theorem dJ32_clear_1 : decode cJ32_clear 1 = .ok (.ifCond .ge 30, 3) := dk_156 0 30 (dk_at dksJ32_clear_0 1 rfl rfl)
theorem dJ32_clear_4 : decode cJ32_clear 4 = .ok (.new 142, 3) := dk_187 0 142 (dk_at dksJ32_clear_0 4 rfl rfl)
theorem dJ32_clear_7 : decode cJ32_clear 7 = .ok (.dup, 1) := dk_89 (dk_at dksJ32_clear_0 7 rfl rfl)
theorem dJ32_clear_8 : decode cJ32_clear 8 = .ok (.new 33, 3) := dk_187 0 33 (dk_at dksJ32_clear_0 8 rfl rfl)
theorem dJ32_clear_11 : decode cJ32_clear 11 = .ok (.dup, 1) := dk_89 (dk_at dksJ32_clear_0 11 rfl rfl)
theorem dJ32_clear_12 : decode cJ32_clear 12 = .ok (.invokespecial 35, 3) := dk_183 0 35 (dk_at dksJ32_clear_0 12 rfl rfl)
theorem dJ32_clear_15 : decode cJ32_clear 15 = .ok (.ldc 153, 2) := dk_18 153 (dk_at dksJ32_clear_0 15 rfl rfl)
theorem dJ32_clear_17 : decode cJ32_clear 17 = .ok (.invokevirtual 38, 3) := dk_182 0 38 (dk_at dksJ32_clear_0 17 rfl rfl)
theorem dJ32_clear_20 : decode cJ32_clear 20 = .ok (.iload_n 1, 1) := dk_27 (dk_at dksJ32_clear_0 20 rfl rfl)
theorem dJ32_clear_21 : decode cJ32_clear 21 = .ok (.invokevirtual 42, 3) := dk_182 0 42 (dk_at dksJ32_clear_0 21 rfl rfl)
theorem dJ32_clear_24 : decode cJ32_clear 24 = .ok (.invokevirtual 45, 3) := dk_182 0 45 (dk_at dksJ32_clear_1 0 rfl rfl)
theorem dJ32_clear_27 : decode cJ32_clear 27 = .ok (.invokespecial 146, 3) := dk_183 0 146 (dk_at dksJ32_clear_1 3 rfl rfl)
theorem dJ32_clear_30 : decode cJ32_clear 30 = .ok (.athrow, 1) := dk_191 (dk_at dksJ32_clear_1 6 rfl rfl)
theorem dJ32_clear_31 : decode cJ32_clear 31 = .ok (.iload_n 1, 1) := dk_27 (dk_at dksJ32_clear_1 7 rfl rfl)
theorem dJ32_clear_32 : decode cJ32_clear 32 = .ok (.invokestatic 52, 3) := dk_184 0 52 (dk_at dksJ32_clear_1 8 rfl rfl)
theorem dJ32_clear_35 : decode cJ32_clear 35 = .ok (.istore_n 2, 1) := dk_61 (dk_at dksJ32_clear_1 11 rfl rfl)
theorem dJ32_clear_36 : decode cJ32_clear 36 = .ok (.iload_n 2, 1) := dk_28 (dk_at dksJ32_clear_1 12 rfl rfl)
theorem dJ32_clear_37 : decode cJ32_clear 37 = .ok (.aload_n 0, 1) := dk_42 (dk_at dksJ32_clear_1 13 rfl rfl)
theorem dJ32_clear_38 : decode cJ32_clear 38 = .ok (.getfield 7, 3) := dk_180 0 7 (dk_at dksJ32_clear_1 14 rfl rfl)
theorem dJ32_clear_41 : decode cJ32_clear 41 = .ok (.if_icmp .lt 4, 3) := dk_161 0 4 (dk_at dksJ32_clear_1 17 rfl rfl)
theorem dJ32_clear_44 : decode cJ32_clear 44 = .ok (.return_, 1) := dk_177 (dk_at dksJ32_clear_1 20 rfl rfl)
theorem dJ32_clear_45 : decode cJ32_clear 45 = .ok (.aload_n 0, 1) := dk_42 (dk_at dksJ32_clear_1 21 rfl rfl)
theorem dJ32_clear_46 : decode cJ32_clear 46 = .ok (.getfield 11, 3) := dk_180 0 11 (dk_at dksJ32_clear_2 0 rfl rfl)
theorem dJ32_clear_49 : decode cJ32_clear 49 = .ok (.iload_n 2, 1) := dk_28 (dk_at dksJ32_clear_2 3 rfl rfl)
theorem dJ32_clear_50 : decode cJ32_clear 50 = .ok (.dup2, 1) := dk_92 (dk_at dksJ32_clear_2 4 rfl rfl)
theorem dJ32_clear_51 : decode cJ32_clear 51 = .ok (.laload, 1) := dk_47 (dk_at dksJ32_clear_2 5 rfl rfl)
theorem dJ32_clear_52 : decode cJ32_clear 52 = .ok (.lconst 1, 1) := dk_10 (dk_at dksJ32_clear_2 6 rfl rfl)
theorem dJ32_clear_53 : decode cJ32_clear 53 = .ok (.iload_n 1, 1) := dk_27 (dk_at dksJ32_clear_2 7 rfl rfl)
theorem dJ32_clear_54 : decode cJ32_clear 54 = .ok (.lshl, 1) := dk_121 (dk_at dksJ32_clear_2 8 rfl rfl)
theorem dJ32_clear_55 : decode cJ32_clear 55 = .ok (.ldc2_w 165, 3) := dk_20 0 165 (dk_at dksJ32_clear_2 9 rfl rfl)
theorem dJ32_clear_58 : decode cJ32_clear 58 = .ok (.lxor, 1) := dk_131 (dk_at dksJ32_clear_2 12 rfl rfl)
theorem dJ32_clear_59 : decode cJ32_clear 59 = .ok (.land, 1) := dk_127 (dk_at dksJ32_clear_2 13 rfl rfl)
theorem dJ32_clear_60 : decode cJ32_clear 60 = .ok (.lastore, 1) := dk_80 (dk_at dksJ32_clear_2 14 rfl rfl)
theorem dJ32_clear_61 : decode cJ32_clear 61 = .ok (.aload_n 0, 1) := dk_42 (dk_at dksJ32_clear_2 15 rfl rfl)
theorem dJ32_clear_62 : decode cJ32_clear 62 = .ok (.invokevirtual 158, 3) := dk_182 0 158 (dk_at dksJ32_clear_2 16 rfl rfl)
theorem dJ32_clear_65 : decode cJ32_clear 65 = .ok (.aload_n 0, 1) := dk_42 (dk_at dksJ32_clear_2 19 rfl rfl)
theorem dJ32_clear_66 : decode cJ32_clear 66 = .ok (.invokevirtual 56, 3) := dk_182 0 56 (dk_at dksJ32_clear_2 20 rfl rfl)
theorem dJ32_clear_69 : decode cJ32_clear 69 = .ok (.return_, 1) := dk_177 (dk_at dksJ32_clear_2 23 rfl rfl)
def dkwJ32_recalculateWordsInUse_1 : List UInt8 := [167, 0, 9, 132, 1, 255, 167, 255, 235, 42, 27, 4, 96, 181, 0, 7, 177]
abbrev dktJ32_recalculateWordsInUse_1 : List UInt8 := dkwJ32_recalculateWordsInUse_1 ++ []
def dkwJ32_recalculateWordsInUse_0 : List UInt8 := [42, 180, 0, 7, 4, 100, 60, 27, 155, 0, 23, 42, 180, 0, 11, 27, 47, 9, 148, 153, 0, 6]
abbrev dktJ32_recalculateWordsInUse_0 : List UInt8 := dkwJ32_recalculateWordsInUse_0 ++ dktJ32_recalculateWordsInUse_1
theorem dksJ32_recalculateWordsInUse_0 : cJ32_recalculateWordsInUse.data.toList.drop 0 = dktJ32_recalculateWordsInUse_0 := by decide +kernel
theorem dksJ32_recalculateWordsInUse_1 : cJ32_recalculateWordsInUse.data.toList.drop 22 = dktJ32_recalculateWordsInUse_1 := dk_seg dksJ32_recalculateWordsInUse_0 22 rfl rfl
theorem dJ32_recalculateWordsInUse_0 : decode cJ32_recalculateWordsInUse 0 = .ok (.aload_n 0, 1) := dk_42 (dk_at dksJ32_recalculateWordsInUse_0 0 rfl rfl)
theorem dJ32_recalculateWordsInUse_1 : decode cJ32_recalculateWordsInUse 1 = .ok (.getfield 7, 3) := dk_180 0 7 (dk_at dksJ32_recalculateWordsInUse_0 1 rfl rfl)
theorem dJ32_recalculateWordsInUse_4 : decode cJ32_recalculateWordsInUse 4 = .ok (.iconst 1, 1) := dk_4 (dk_at dksJ32_recalculateWordsInUse_0 4 rfl rfl)
theorem dJ32_recalculateWordsInUse_5 : decode cJ32_recalculateWordsInUse 5 = .ok (.isub, 1) := dk_100 (dk_at dksJ32_recalculateWordsInUse_0 5 rfl rfl)
theorem dJ32_recalculateWordsInUse_6 : decode cJ32_recalculateWordsInUse 6 = .ok (.istore_n 1, 1) := dk_60 (dk_at dksJ32_recalculateWordsInUse_0 6 rfl rfl)
theorem dJ32_recalculateWordsInUse_7 : decode cJ32_recalculateWordsInUse 7 = .ok (.iload_n 1, 1) := dk_27 (dk_at dksJ32_recalculateWordsInUse_0 7 rfl rfl)
theorem dJ32_recalculateWordsInUse_8 : decode cJ32_recalculateWordsInUse 8 = .ok (.ifCond .lt 23, 3) := dk_155 0 23 (dk_at dksJ32_recalculateWordsInUse_0 8 rfl rfl)
theorem dJ32_recalculateWordsInUse_11 : decode cJ32_recalculateWordsInUse 11 = .ok (.aload_n 0, 1) := dk_42 (dk_at dksJ32_recalculateWordsInUse_0 11 rfl rfl)
theorem dJ32_recalculateWordsInUse_12 : decode cJ32_recalculateWordsInUse 12 = .ok (.getfield 11, 3) := dk_180 0 11 (dk_at dksJ32_recalculateWordsInUse_0 12 rfl rfl)
theorem dJ32_recalculateWordsInUse_15 : decode cJ32_recalculateWordsInUse 15 = .ok (.iload_n 1, 1) := dk_27 (dk_at dksJ32_recalculateWordsInUse_0 15 rfl rfl)
theorem dJ32_recalculateWordsInUse_16 : decode cJ32_recalculateWordsInUse 16 = .ok (.laload, 1) := dk_47 (dk_at dksJ32_recalculateWordsInUse_0 16 rfl rfl)
theorem dJ32_recalculateWordsInUse_17 : decode cJ32_recalculateWordsInUse 17 = .ok (.lconst 0, 1) := dk_9 (dk_at dksJ32_recalculateWordsInUse_0 17 rfl rfl)
theorem dJ32_recalculateWordsInUse_18 : decode cJ32_recalculateWordsInUse 18 = .ok (.lcmp, 1) := dk_148 (dk_at dksJ32_recalculateWordsInUse_0 18 rfl rfl)
theorem dJ32_recalculateWordsInUse_19 : decode cJ32_recalculateWordsInUse 19 = .ok (.ifCond .eq 6, 3) := dk_153 0 6 (dk_at dksJ32_recalculateWordsInUse_0 19 rfl rfl)
theorem dJ32_recalculateWordsInUse_22 : decode cJ32_recalculateWordsInUse 22 = .ok (.goto 9, 3) := dk_167 0 9 (dk_at dksJ32_recalculateWordsInUse_1 0 rfl rfl)
theorem dJ32_recalculateWordsInUse_25 : decode cJ32_recalculateWordsInUse 25 = .ok (.iinc 1 (-1), 3) := dk_132 1 255 (dk_at dksJ32_recalculateWordsInUse_1 3 rfl rfl)
theorem dJ32_recalculateWordsInUse_28 : decode cJ32_recalculateWordsInUse 28 = .ok (.goto (-21), 3) := dk_167 255 235 (dk_at dksJ32_recalculateWordsInUse_1 6 rfl rfl)
theorem dJ32_recalculateWordsInUse_31 : decode cJ32_recalculateWordsInUse 31 = .ok (.aload_n 0, 1) := dk_42 (dk_at dksJ32_recalculateWordsInUse_1 9 rfl rfl)
theorem dJ32_recalculateWordsInUse_32 : decode cJ32_recalculateWordsInUse 32 = .ok (.iload_n 1, 1) := dk_27 (dk_at dksJ32_recalculateWordsInUse_1 10 rfl rfl)
theorem dJ32_recalculateWordsInUse_33 : decode cJ32_recalculateWordsInUse 33 = .ok (.iconst 1, 1) := dk_4 (dk_at dksJ32_recalculateWordsInUse_1 11 rfl rfl)
theorem dJ32_recalculateWordsInUse_34 : decode cJ32_recalculateWordsInUse 34 = .ok (.iadd, 1) := dk_96 (dk_at dksJ32_recalculateWordsInUse_1 12 rfl rfl)
theorem dJ32_recalculateWordsInUse_35 : decode cJ32_recalculateWordsInUse 35 = .ok (.putfield 7, 3) := dk_181 0 7 (dk_at dksJ32_recalculateWordsInUse_1 13 rfl rfl)
theorem dJ32_recalculateWordsInUse_38 : decode cJ32_recalculateWordsInUse 38 = .ok (.return_, 1) := dk_177 (dk_at dksJ32_recalculateWordsInUse_1 16 rfl rfl)
def dkwJ32_nextSetBit_4 : List UInt8 := [28, 47, 66, 167, 255, 220]
abbrev dktJ32_nextSetBit_4 : List UInt8 := dkwJ32_nextSetBit_4 ++ []
def dkwJ32_nextSetBit_3 : List UInt8 := [104, 33, 184, 0, 182, 96, 172, 132, 2, 1, 28, 42, 180, 0, 7, 160, 0, 5, 2, 172, 42, 180, 0, 11]
abbrev dktJ32_nextSetBit_3 : List UInt8 := dkwJ32_nextSetBit_3 ++ dktJ32_nextSetBit_4
def dkwJ32_nextSetBit_2 : List UInt8 := [2, 172, 42, 180, 0, 11, 28, 47, 20, 0, 165, 27, 121, 127, 66, 33, 9, 148, 153, 0, 13, 28, 16, 64]
abbrev dktJ32_nextSetBit_2 : List UInt8 := dkwJ32_nextSetBit_2 ++ dktJ32_nextSetBit_3
def dkwJ32_nextSetBit_1 : List UInt8 := [182, 0, 45, 183, 0, 146, 191, 42, 182, 0, 56, 27, 184, 0, 52, 61, 28, 42, 180, 0, 7, 161, 0, 5]
abbrev dktJ32_nextSetBit_1 : List UInt8 := dkwJ32_nextSetBit_1 ++ dktJ32_nextSetBit_2
def dkwJ32_nextSetBit_0 : List UInt8 := [27, 156, 0, 30, 187, 0, 142, 89, 187, 0, 33, 89, 183, 0, 35, 18, 144, 182, 0, 38, 27, 182, 0, 42]
abbrev dktJ32_nextSetBit_0 : List UInt8 := dkwJ32_nextSetBit_0 ++ dktJ32_nextSetBit_1
theorem dksJ32_nextSetBit_0 : cJ32_nextSetBit.data.toList.drop 0 = dktJ32_nextSetBit_0 := by decide +kernel
theorem dksJ32_nextSetBit_1 : cJ32_nextSetBit.data.toList.drop 24 = dktJ32_nextSetBit_1 := dk_seg dksJ32_nextSetBit_0 24 rfl rfl
theorem dksJ32_nextSetBit_2 : cJ32_nextSetBit.data.toList.drop 48 = dktJ32_nextSetBit_2 := dk_seg dksJ32_nextSetBit_1 24 rfl rfl
theorem dksJ32_nextSetBit_3 : cJ32_nextSetBit.data.toList.drop 72 = dktJ32_nextSetBit_3 := dk_seg dksJ32_nextSetBit_2 24 rfl rfl
theorem dksJ32_nextSetBit_4 : cJ32_nextSetBit.data.toList.drop 96 = dktJ32_nextSetBit_4 := dk_seg dksJ32_nextSetBit_3 24 rfl rfl
theorem dJ32_nextSetBit_0 : decode cJ32_nextSetBit 0 = .ok (.iload_n 1, 1) := dk_27 (dk_at dksJ32_nextSetBit_0 0 rfl rfl)
theorem dJ32_nextSetBit_1 : decode cJ32_nextSetBit 1 = .ok (.ifCond .ge 30, 3) := dk_156 0 30 (dk_at dksJ32_nextSetBit_0 1 rfl rfl)
theorem dJ32_nextSetBit_4 : decode cJ32_nextSetBit 4 = .ok (.new 142, 3) := dk_187 0 142 (dk_at dksJ32_nextSetBit_0 4 rfl rfl)
theorem dJ32_nextSetBit_7 : decode cJ32_nextSetBit 7 = .ok (.dup, 1) := dk_89 (dk_at dksJ32_nextSetBit_0 7 rfl rfl)
theorem dJ32_nextSetBit_8 : decode cJ32_nextSetBit 8 = .ok (.new 33, 3) := dk_187 0 33 (dk_at dksJ32_nextSetBit_0 8 rfl rfl)
theorem dJ32_nextSetBit_11 : decode cJ32_nextSetBit 11 = .ok (.dup, 1) := dk_89 (dk_at dksJ32_nextSetBit_0 11 rfl rfl)
theorem dJ32_nextSetBit_12 : decode cJ32_nextSetBit 12 = .ok (.invokespecial 35, 3) := dk_183 0 35 (dk_at dksJ32_nextSetBit_0 12 rfl rfl)
theorem dJ32_nextSetBit_15 : decode cJ32_nextSetBit 15 = .ok (.ldc 144, 2) := dk_18 144 (dk_at dksJ32_nextSetBit_0 15 rfl rfl)
theorem dJ32_nextSetBit_17 : decode cJ32_nextSetBit 17 = .ok (.invokevirtual 38, 3) := dk_182 0 38 (dk_at dksJ32_nextSetBit_0 17 rfl rfl)
theorem dJ32_nextSetBit_20 : decode cJ32_nextSetBit 20 = .ok (.iload_n 1, 1) := dk_27 (dk_at dksJ32_nextSetBit_0 20 rfl rfl)
theorem dJ32_nextSetBit_21 : decode cJ32_nextSetBit 21 = .ok (.invokevirtual 42, 3) := dk_182 0 42 (dk_at dksJ32_nextSetBit_0 21 rfl rfl)
theorem dJ32_nextSetBit_24 : decode cJ32_nextSetBit 24 = .ok (.invokevirtual 45, 3) := dk_182 0 45 (dk_at dksJ32_nextSetBit_1 0 rfl rfl)
theorem dJ32_nextSetBit_27 : decode cJ32_nextSetBit 27 = .ok (.invokespecial 146, 3) := dk_183 0 146 (dk_at dksJ32_nextSetBit_1 3 rfl rfl)
theorem dJ32_nextSetBit_30 : decode cJ32_nextSetBit 30 = .ok (.athrow, 1) := dk_191 (dk_at dksJ32_nextSetBit_1 6 rfl rfl)
theorem dJ32_nextSetBit_31 : decode cJ32_nextSetBit 31 = .ok (.aload_n 0, 1) := dk_42 (dk_at dksJ32_nextSetBit_1 7 rfl rfl)
theorem dJ32_nextSetBit_32 : decode cJ32_nextSetBit 32 = .ok (.invokevirtual 56, 3) := dk_182 0 56 (dk_at dksJ32_nextSetBit_1 8 rfl rfl)
theorem dJ32_nextSetBit_35 : decode cJ32_nextSetBit 35 = .ok (.iload_n 1, 1) := dk_27 (dk_at dksJ32_nextSetBit_1 11 rfl rfl)
theorem dJ32_nextSetBit_36 : decode cJ32_nextSetBit 36 = .ok (.invokestatic 52, 3) := dk_184 0 52 (dk_at dksJ32_nextSetBit_1 12 rfl rfl)
theorem dJ32_nextSetBit_39 : decode cJ32_nextSetBit 39 = .ok (.istore_n 2, 1) := dk_61 (dk_at dksJ32_nextSetBit_1 15 rfl rfl)
theorem dJ32_nextSetBit_40 : decode cJ32_nextSetBit 40 = .ok (.iload_n 2, 1) := dk_28 (dk_at dksJ32_nextSetBit_1 16 rfl rfl)
theorem dJ32_nextSetBit_41 : decode cJ32_nextSetBit 41 = .ok (.aload_n 0, 1) := dk_42 (dk_at dksJ32_nextSetBit_1 17 rfl rfl)
theorem dJ32_nextSetBit_42 : decode cJ32_nextSetBit 42 = .ok (.getfield 7, 3) := dk_180 0 7 (dk_at dksJ32_nextSetBit_1 18 rfl rfl)
theorem dJ32_nextSetBit_45 : decode cJ32_nextSetBit 45 = .ok (.if_icmp .lt 5, 3) := dk_161 0 5 (dk_at dksJ32_nextSetBit_1 21 rfl rfl)
theorem dJ32_nextSetBit_48 : decode cJ32_nextSetBit 48 = .ok (.iconst (-1), 1) := dk_2 (dk_at dksJ32_nextSetBit_2 0 rfl rfl)
theorem dJ32_nextSetBit_49 : decode cJ32_nextSetBit 49 = .ok (.ireturn, 1) := dk_172 (dk_at dksJ32_nextSetBit_2 1 rfl rfl)
theorem dJ32_nextSetBit_50 : decode cJ32_nextSetBit 50 = .ok (.aload_n 0, 1) := dk_42 (dk_at dksJ32_nextSetBit_2 2 rfl rfl)
theorem dJ32_nextSetBit_51 : decode cJ32_nextSetBit 51 = .ok (.getfield 11, 3) := dk_180 0 11 (dk_at dksJ32_nextSetBit_2 3 rfl rfl)
theorem dJ32_nextSetBit_54 : decode cJ32_nextSetBit 54 = .ok (.iload_n 2, 1) := dk_28 (dk_at dksJ32_nextSetBit_2 6 rfl rfl)
theorem dJ32_nextSetBit_55 : decode cJ32_nextSetBit 55 = .ok (.laload, 1) := dk_47 (dk_at dksJ32_nextSetBit_2 7 rfl rfl)
theorem dJ32_nextSetBit_56 : decode cJ32_nextSetBit 56 = .ok (.ldc2_w 165, 3) := dk_20 0 165 (dk_at dksJ32_nextSetBit_2 8 rfl rfl)
theorem dJ32_nextSetBit_59 : decode cJ32_nextSetBit 59 = .ok (.iload_n 1, 1) := dk_27 (dk_at dksJ32_nextSetBit_2 11 rfl rfl)
theorem dJ32_nextSetBit_60 : decode cJ32_nextSetBit 60 = .ok (.lshl, 1) := dk_121 (dk_at dksJ32_nextSetBit_2 12 rfl rfl)
theorem dJ32_nextSetBit_61 : decode cJ32_nextSetBit 61 = .ok (.land, 1) := dk_127 (dk_at dksJ32_nextSetBit_2 13 rfl rfl)
theorem dJ32_nextSetBit_62 : decode cJ32_nextSetBit 62 = .ok (.lstore_n 3, 1) := dk_66 (dk_at dksJ32_nextSetBit_2 14 rfl rfl)
theorem dJ32_nextSetBit_63 : decode cJ32_nextSetBit 63 = .ok (.lload_n 3, 1) := dk_33 (dk_at dksJ32_nextSetBit_2 15 rfl rfl)
theorem dJ32_nextSetBit_64 : decode cJ32_nextSetBit 64 = .ok (.lconst 0, 1) := dk_9 (dk_at dksJ32_nextSetBit_2 16 rfl rfl)
theorem dJ32_nextSetBit_65 : decode cJ32_nextSetBit 65 = .ok (.lcmp, 1) := dk_148 (dk_at dksJ32_nextSetBit_2 17 rfl rfl)
theorem dJ32_nextSetBit_66 : decode cJ32_nextSetBit 66 = .ok (.ifCond .eq 13, 3) := dk_153 0 13 (dk_at dksJ32_nextSetBit_2 18 rfl rfl)
theorem dJ32_nextSetBit_69 : decode cJ32_nextSetBit 69 = .ok (.iload_n 2, 1) := dk_28 (dk_at dksJ32_nextSetBit_2 21 rfl rfl)
theorem dJ32_nextSetBit_70 : decode cJ32_nextSetBit 70 = .ok (.bipush 64, 2) := dk_16 64 (dk_at dksJ32_nextSetBit_2 22 rfl rfl)
theorem dJ32_nextSetBit_72 : decode cJ32_nextSetBit 72 = .ok (.imul, 1) := dk_104 (dk_at dksJ32_nextSetBit_3 0 rfl rfl)
theorem dJ32_nextSetBit_73 : decode cJ32_nextSetBit 73 = .ok (.lload_n 3, 1) := dk_33 (dk_at dksJ32_nextSetBit_3 1 rfl rfl)
theorem dJ32_nextSetBit_74 : decode cJ32_nextSetBit 74 = .ok (.invokestatic 182, 3) := dk_184 0 182 (dk_at dksJ32_nextSetBit_3 2 rfl rfl)
theorem dJ32_nextSetBit_77 : decode cJ32_nextSetBit 77 = .ok (.iadd, 1) := dk_96 (dk_at dksJ32_nextSetBit_3 5 rfl rfl)
theorem dJ32_nextSetBit_78 : decode cJ32_nextSetBit 78 = .ok (.ireturn, 1) := dk_172 (dk_at dksJ32_nextSetBit_3 6 rfl rfl)
theorem dJ32_nextSetBit_79 : decode cJ32_nextSetBit 79 = .ok (.iinc 2 1, 3) := dk_132 2 1 (dk_at dksJ32_nextSetBit_3 7 rfl rfl)
theorem dJ32_nextSetBit_82 : decode cJ32_nextSetBit 82 = .ok (.iload_n 2, 1) := dk_28 (dk_at dksJ32_nextSetBit_3 10 rfl rfl)
theorem dJ32_nextSetBit_83 : decode cJ32_nextSetBit 83 = .ok (.aload_n 0, 1) := dk_42 (dk_at dksJ32_nextSetBit_3 11 rfl rfl)
theorem dJ32_nextSetBit_84 : decode cJ32_nextSetBit 84 = .ok (.getfield 7, 3) := dk_180 0 7 (dk_at dksJ32_nextSetBit_3 12 rfl rfl)
theorem dJ32_nextSetBit_87 : decode cJ32_nextSetBit 87 = .ok (.if_icmp .ne 5, 3) := dk_160 0 5 (dk_at dksJ32_nextSetBit_3 15 rfl rfl)
theorem dJ32_nextSetBit_90 : decode cJ32_nextSetBit 90 = .ok (.iconst (-1), 1) := dk_2 (dk_at dksJ32_nextSetBit_3 18 rfl rfl)
theorem dJ32_nextSetBit_91 : decode cJ32_nextSetBit 91 = .ok (.ireturn, 1) := dk_172 (dk_at dksJ32_nextSetBit_3 19 rfl rfl)
theorem dJ32_nextSetBit_92 : decode cJ32_nextSetBit 92 = .ok (.aload_n 0, 1) := dk_42 (dk_at dksJ32_nextSetBit_3 20 rfl rfl)
theorem dJ32_nextSetBit_93 : decode cJ32_nextSetBit 93 = .ok (.getfield 11, 3) := dk_180 0 11 (dk_at dksJ32_nextSetBit_3 21 rfl rfl)
theorem dJ32_nextSetBit_96 : decode cJ32_nextSetBit 96 = .ok (.iload_n 2, 1) := dk_28 (dk_at dksJ32_nextSetBit_4 0 rfl rfl)
theorem dJ32_nextSetBit_97 : decode cJ32_nextSetBit 97 = .ok (.laload, 1) := dk_47 (dk_at dksJ32_nextSetBit_4 1 rfl rfl)
theorem dJ32_nextSetBit_98 : decode cJ32_nextSetBit 98 = .ok (.lstore_n 3, 1) := dk_66 (dk_at dksJ32_nextSetBit_4 2 rfl rfl)
theorem dJ32_nextSetBit_99 : decode cJ32_nextSetBit 99 = .ok (.goto (-36), 3) := dk_167 255 220 (dk_at dksJ32_nextSetBit_4 3 rfl rfl)
def dkwJ33_numberOfTrailingZeros_1 : List UInt8 := [184, 1, 55, 172]
abbrev dktJ33_numberOfTrailingZeros_1 : List UInt8 := dkwJ33_numberOfTrailingZeros_1 ++ []
def dkwJ33_numberOfTrailingZeros_0 : List UInt8 := [30, 136, 61, 28, 154, 0, 17, 16, 32, 30, 16, 32, 125, 136, 184, 1, 55, 96, 167, 0, 7, 28]
abbrev dktJ33_numberOfTrailingZeros_0 : List UInt8 := dkwJ33_numberOfTrailingZeros_0 ++ dktJ33_numberOfTrailingZeros_1
theorem dksJ33_numberOfTrailingZeros_0 : cJ33_numberOfTrailingZeros.data.toList.drop 0 = dktJ33_numberOfTrailingZeros_0 := by decide +kernel
theorem dksJ33_numberOfTrailingZeros_1 : cJ33_numberOfTrailingZeros.data.toList.drop 22 = dktJ33_numberOfTrailingZeros_1 := dk_seg dksJ33_numberOfTrailingZeros_0 22 rfl rfl
theorem dJ33_numberOfTrailingZeros_0 : decode cJ33_numberOfTrailingZeros 0 = .ok (.lload_n 0, 1) := dk_30 (dk_at dksJ33_numberOfTrailingZeros_0 0 rfl rfl)
theorem dJ33_numberOfTrailingZeros_1 : decode cJ33_numberOfTrailingZeros 1 = .ok (.l2i, 1) := dk_136 (dk_at dksJ33_numberOfTrailingZeros_0 1 rfl rfl)
theorem dJ33_numberOfTrailingZeros_2 : decode cJ33_numberOfTrailingZeros 2 = .ok (.istore_n 2, 1) := dk_61 (dk_at dksJ33_numberOfTrailingZeros_0 2 rfl rfl)
theorem dJ33_numberOfTrailingZeros_3 : decode cJ33_numberOfTrailingZeros 3 = .ok (.iload_n 2, 1) := dk_28 (dk_at dksJ33_numberOfTrailingZeros_0 3 rfl rfl)
theorem dJ33_numberOfTrailingZeros_4 : decode cJ33_numberOfTrailingZeros 4 = .ok (.ifCond .ne 17, 3) := dk_154 0 17 (dk_at dksJ33_numberOfTrailingZeros_0 4 rfl rfl)
theorem dJ33_numberOfTrailingZeros_7 : decode cJ33_numberOfTrailingZeros 7 = .ok (.bipush 32, 2) := dk_16 32 (dk_at dksJ33_numberOfTrailingZeros_0 7 rfl rfl)
theorem dJ33_numberOfTrailingZeros_9 : decode cJ33_numberOfTrailingZeros 9 = .ok (.lload_n 0, 1) := dk_30 (dk_at dksJ33_numberOfTrailingZeros_0 9 rfl rfl)
theorem dJ33_numberOfTrailingZeros_10 : decode cJ33_numberOfTrailingZeros 10 = .ok (.bipush 32, 2) := dk_16 32 (dk_at dksJ33_numberOfTrailingZeros_0 10 rfl rfl)
theorem dJ33_numberOfTrailingZeros_12 : decode cJ33_numberOfTrailingZeros 12 = .ok (.lushr, 1) := dk_125 (dk_at dksJ33_numberOfTrailingZeros_0 12 rfl rfl)
theorem dJ33_numberOfTrailingZeros_13 : decode cJ33_numberOfTrailingZeros 13 = .ok (.l2i, 1) := dk_136 (dk_at dksJ33_numberOfTrailingZeros_0 13 rfl rfl)
theorem dJ33_numberOfTrailingZeros_14 : decode cJ33_numberOfTrailingZeros 14 = .ok (.invokestatic 311, 3) := dk_184 1 55 (dk_at dksJ33_numberOfTrailingZeros_0 14 rfl rfl)
theorem dJ33_numberOfTrailingZeros_17 : decode cJ33_numberOfTrailingZeros 17 = .ok (.iadd, 1) := dk_96 (dk_at dksJ33_numberOfTrailingZeros_0 17 rfl rfl)
theorem dJ33_numberOfTrailingZeros_18 : decode cJ33_numberOfTrailingZeros 18 = .ok (.goto 7, 3) := dk_167 0 7 (dk_at dksJ33_numberOfTrailingZeros_0 18 rfl rfl)
theorem dJ33_numberOfTrailingZeros_21 : decode cJ33_numberOfTrailingZeros 21 = .ok (.iload_n 2, 1) := dk_28 (dk_at dksJ33_numberOfTrailingZeros_0 21 rfl rfl)
theorem dJ33_numberOfTrailingZeros_22 : decode cJ33_numberOfTrailingZeros 22 = .ok (.invokestatic 311, 3) := dk_184 1 55 (dk_at dksJ33_numberOfTrailingZeros_1 0 rfl rfl)
theorem dJ33_numberOfTrailingZeros_25 : decode cJ33_numberOfTrailingZeros 25 = .ok (.ireturn, 1) := dk_172 (dk_at dksJ33_numberOfTrailingZeros_1 3 rfl rfl)
def dkwJ34_isValidCodePoint_0 : List UInt8 := [26, 16, 16, 124, 60, 27, 16, 17, 162, 0, 7, 4, 167, 0, 4, 3, 172]
abbrev dktJ34_isValidCodePoint_0 : List UInt8 := dkwJ34_isValidCodePoint_0 ++ []
theorem dksJ34_isValidCodePoint_0 : cJ34_isValidCodePoint.data.toList.drop 0 = dktJ34_isValidCodePoint_0 := by decide +kernel
theorem dJ34_isValidCodePoint_0 : decode cJ34_isValidCodePoint 0 = .ok (.iload_n 0, 1) := dk_26 (dk_at dksJ34_isValidCodePoint_0 0 rfl rfl)
theorem dJ34_isValidCodePoint_1 : decode cJ34_isValidCodePoint 1 = .ok (.bipush 16, 2) := dk_16 16 (dk_at dksJ34_isValidCodePoint_0 1 rfl rfl)
theorem dJ34_isValidCodePoint_3 : decode cJ34_isValidCodePoint 3 = .ok (.iushr, 1) := dk_124 (dk_at dksJ34_isValidCodePoint_0 3 rfl rfl)
theorem dJ34_isValidCodePoint_4 : decode cJ34_isValidCodePoint 4 = .ok (.istore_n 1, 1) := dk_60 (dk_at dksJ34_isValidCodePoint_0 4 rfl rfl)
theorem dJ34_isValidCodePoint_5 : decode cJ34_isValidCodePoint 5 = .ok (.iload_n 1, 1) := dk_27 (dk_at dksJ34_isValidCodePoint_0 5 rfl rfl)
theorem dJ34_isValidCodePoint_6 : decode cJ34_isValidCodePoint 6 = .ok (.bipush 17, 2) := dk_16 17 (dk_at dksJ34_isValidCodePoint_0 6 rfl rfl)
theorem dJ34_isValidCodePoint_8 : decode cJ34_isValidCodePoint 8 = .ok (.if_icmp .ge 7, 3) := dk_162 0 7 (dk_at dksJ34_isValidCodePoint_0 8 rfl rfl)
theorem dJ34_isValidCodePoint_11 : decode cJ34_isValidCodePoint 11 = .ok (.iconst 1, 1) := dk_4 (dk_at dksJ34_isValidCodePoint_0 11 rfl rfl)
theorem dJ34_isValidCodePoint_12 : decode cJ34_isValidCodePoint 12 = .ok (.goto 4, 3) := dk_167 0 4 (dk_at dksJ34_isValidCodePoint_0 12 rfl rfl)
theorem dJ34_isValidCodePoint_15 : decode cJ34_isValidCodePoint 15 = .ok (.iconst 0, 1) := dk_3 (dk_at dksJ34_isValidCodePoint_0 15 rfl rfl)
theorem dJ34_isValidCodePoint_16 : decode cJ34_isValidCodePoint 16 = .ok (.ireturn, 1) := dk_172 (dk_at dksJ34_isValidCodePoint_0 16 rfl rfl)
def dkwJ34_highSurrogate_0 : List UInt8 := [26, 16, 10, 124, 18, 110, 96, 146, 172]
abbrev dktJ34_highSurrogate_0 : List UInt8 := dkwJ34_highSurrogate_0 ++ []
theorem dksJ34_highSurrogate_0 : cJ34_highSurrogate.data.toList.drop 0 = dktJ34_highSurrogate_0 := by decide +kernel
theorem dJ34_highSurrogate_0 : decode cJ34_highSurrogate 0 = .ok (.iload_n 0, 1) := dk_26 (dk_at dksJ34_highSurrogate_0 0 rfl rfl)
theorem dJ34_highSurrogate_1 : decode cJ34_highSurrogate 1 = .ok (.bipush 10, 2) := dk_16 10 (dk_at dksJ34_highSurrogate_0 1 rfl rfl)
theorem dJ34_highSurrogate_3 : decode cJ34_highSurrogate 3 = .ok (.iushr, 1) := dk_124 (dk_at dksJ34_highSurrogate_0 3 rfl rfl)
theorem dJ34_highSurrogate_4 : decode cJ34_highSurrogate 4 = .ok (.ldc 110, 2) := dk_18 110 (dk_at dksJ34_highSurrogate_0 4 rfl rfl)
theorem dJ34_highSurrogate_6 : decode cJ34_highSurrogate 6 = .ok (.iadd, 1) := dk_96 (dk_at dksJ34_highSurrogate_0 6 rfl rfl)
theorem dJ34_highSurrogate_7 : decode cJ34_highSurrogate 7 = .ok (.i2c, 1) := dk_146 (dk_at dksJ34_highSurrogate_0 7 rfl rfl)
theorem dJ34_highSurrogate_8 : decode cJ34_highSurrogate 8 = .ok (.ireturn, 1) := dk_172 (dk_at dksJ34_highSurrogate_0 8 rfl rfl)
def dkwJ34_lowSurrogate_0 : List UInt8 := [26, 17, 3, 255, 126, 18, 76, 96, 146, 172]
abbrev dktJ34_lowSurrogate_0 : List UInt8 := dkwJ34_lowSurrogate_0 ++ []
theorem dksJ34_lowSurrogate_0 : cJ34_lowSurrogate.data.toList.drop 0 = dktJ34_lowSurrogate_0 := by decide +kernel
theorem dJ34_lowSurrogate_0 : decode cJ34_lowSurrogate 0 = .ok (.iload_n 0, 1) := dk_26 (dk_at dksJ34_lowSurrogate_0 0 rfl rfl)
theorem dJ34_lowSurrogate_1 : decode cJ34_lowSurrogate 1 = .ok (.sipush 1023, 3) := dk_17 3 255 (dk_at dksJ34_lowSurrogate_0 1 rfl rfl)
theorem dJ34_lowSurrogate_4 : decode cJ34_lowSurrogate 4 = .ok (.iand, 1) := dk_126 (dk_at dksJ34_lowSurrogate_0 4 rfl rfl)
theorem dJ34_lowSurrogate_5 : decode cJ34_lowSurrogate 5 = .ok (.ldc 76, 2) := dk_18 76 (dk_at dksJ34_lowSurrogate_0 5 rfl rfl)
theorem dJ34_lowSurrogate_7 : decode cJ34_lowSurrogate 7 = .ok (.iadd, 1) := dk_96 (dk_at dksJ34_lowSurrogate_0 7 rfl rfl)
theorem dJ34_lowSurrogate_8 : decode cJ34_lowSurrogate 8 = .ok (.i2c, 1) := dk_146 (dk_at dksJ34_lowSurrogate_0 8 rfl rfl)
theorem dJ34_lowSurrogate_9 : decode cJ34_lowSurrogate 9 = .ok (.ireturn, 1) := dk_172 (dk_at dksJ34_lowSurrogate_0 9 rfl rfl)
theorem dJ35_init_0 : decode cJ35_init 0 = .ok (.return_, 1) := by decide +kernel
