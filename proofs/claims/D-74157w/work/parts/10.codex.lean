set_option maxRecDepth 100000
def dkwX0_item_0 : List UInt8 := [45, 3, 42, 27, 28, 182, 0, 7, 133, 80, 167, 0, 7, 58, 4, 4, 172, 3, 172]
abbrev dktX0_item_0 : List UInt8 := dkwX0_item_0 ++ []
theorem dksX0_item_0 : cX0_item.data.toList.drop 0 = dktX0_item_0 := by decide +kernel
theorem dX0_item_0 : decode cX0_item 0 = .ok (.aload_n 3, 1) := dk_45 (dk_at dksX0_item_0 0 rfl rfl)
theorem dX0_item_1 : decode cX0_item 1 = .ok (.iconst 0, 1) := dk_3 (dk_at dksX0_item_0 1 rfl rfl)
theorem dX0_item_2 : decode cX0_item 2 = .ok (.aload_n 0, 1) := dk_42 (dk_at dksX0_item_0 2 rfl rfl)
theorem dX0_item_3 : decode cX0_item 3 = .ok (.iload_n 1, 1) := dk_27 (dk_at dksX0_item_0 3 rfl rfl)
theorem dX0_item_4 : decode cX0_item 4 = .ok (.iload_n 2, 1) := dk_28 (dk_at dksX0_item_0 4 rfl rfl)
theorem dX0_item_5 : decode cX0_item 5 = .ok (.invokevirtual 7, 3) := dk_182 0 7 (dk_at dksX0_item_0 5 rfl rfl)
theorem dX0_item_8 : decode cX0_item 8 = .ok (.i2l, 1) := dk_133 (dk_at dksX0_item_0 8 rfl rfl)
theorem dX0_item_9 : decode cX0_item 9 = .ok (.lastore, 1) := dk_80 (dk_at dksX0_item_0 9 rfl rfl)
theorem dX0_item_10 : decode cX0_item 10 = .ok (.goto 7, 3) := dk_167 0 7 (dk_at dksX0_item_0 10 rfl rfl)
theorem dX0_item_13 : decode cX0_item 13 = .ok (.astore 4, 2) := dk_58 4 (dk_at dksX0_item_0 13 rfl rfl)
theorem dX0_item_15 : decode cX0_item 15 = .ok (.iconst 1, 1) := dk_4 (dk_at dksX0_item_0 15 rfl rfl)
theorem dX0_item_16 : decode cX0_item 16 = .ok (.ireturn, 1) := dk_172 (dk_at dksX0_item_0 16 rfl rfl)
theorem dX0_item_17 : decode cX0_item 17 = .ok (.iconst 0, 1) := dk_3 (dk_at dksX0_item_0 17 rfl rfl)
theorem dX0_item_18 : decode cX0_item 18 = .ok (.ireturn, 1) := dk_172 (dk_at dksX0_item_0 18 rfl rfl)
def dkwX0_row_0 : List UInt8 := [44, 3, 42, 27, 182, 0, 15, 80, 167, 0, 6, 78, 4, 172, 3, 172]
abbrev dktX0_row_0 : List UInt8 := dkwX0_row_0 ++ []
theorem dksX0_row_0 : cX0_row.data.toList.drop 0 = dktX0_row_0 := by decide +kernel
theorem dX0_row_0 : decode cX0_row 0 = .ok (.aload_n 2, 1) := dk_44 (dk_at dksX0_row_0 0 rfl rfl)
theorem dX0_row_1 : decode cX0_row 1 = .ok (.iconst 0, 1) := dk_3 (dk_at dksX0_row_0 1 rfl rfl)
theorem dX0_row_2 : decode cX0_row 2 = .ok (.aload_n 0, 1) := dk_42 (dk_at dksX0_row_0 2 rfl rfl)
theorem dX0_row_3 : decode cX0_row 3 = .ok (.iload_n 1, 1) := dk_27 (dk_at dksX0_row_0 3 rfl rfl)
theorem dX0_row_4 : decode cX0_row 4 = .ok (.invokevirtual 15, 3) := dk_182 0 15 (dk_at dksX0_row_0 4 rfl rfl)
theorem dX0_row_7 : decode cX0_row 7 = .ok (.lastore, 1) := dk_80 (dk_at dksX0_row_0 7 rfl rfl)
theorem dX0_row_8 : decode cX0_row 8 = .ok (.goto 6, 3) := dk_167 0 6 (dk_at dksX0_row_0 8 rfl rfl)
theorem dX0_row_11 : decode cX0_row 11 = .ok (.astore_n 3, 1) := dk_78 (dk_at dksX0_row_0 11 rfl rfl)
theorem dX0_row_12 : decode cX0_row 12 = .ok (.iconst 1, 1) := dk_4 (dk_at dksX0_row_0 12 rfl rfl)
theorem dX0_row_13 : decode cX0_row 13 = .ok (.ireturn, 1) := dk_172 (dk_at dksX0_row_0 13 rfl rfl)
theorem dX0_row_14 : decode cX0_row 14 = .ok (.iconst 0, 1) := dk_3 (dk_at dksX0_row_0 14 rfl rfl)
theorem dX0_row_15 : decode cX0_row 15 = .ok (.ireturn, 1) := dk_172 (dk_at dksX0_row_0 15 rfl rfl)
def dkwX1_init_14 : List UInt8 := [181, 0, 187, 42, 16, 64, 188, 11, 181, 0, 190, 42, 16, 64, 188, 11, 181, 0, 193, 42, 182, 0, 196, 177]
abbrev dktX1_init_14 : List UInt8 := dkwX1_init_14 ++ []
def dkwX1_init_13 : List UInt8 := [17, 0, 128, 188, 11, 181, 0, 180, 42, 17, 0, 128, 188, 11, 181, 0, 184, 42, 17, 0, 128, 188, 11]
abbrev dktX1_init_13 : List UInt8 := dkwX1_init_13 ++ dktX1_init_14
def dkwX1_init_12 : List UInt8 := [188, 10, 181, 0, 170, 42, 16, 64, 188, 10, 181, 0, 173, 42, 16, 100, 188, 8, 181, 0, 176, 42]
abbrev dktX1_init_12 : List UInt8 := dkwX1_init_12 ++ dktX1_init_13
def dkwX1_init_11 : List UInt8 := [183, 0, 159, 184, 0, 49, 181, 0, 162, 42, 187, 0, 157, 89, 42, 183, 0, 159, 181, 0, 166, 42, 16, 64]
abbrev dktX1_init_11 : List UInt8 := dkwX1_init_11 ++ dktX1_init_12
def dkwX1_init_10 : List UInt8 := [183, 0, 159, 187, 0, 157, 89, 42, 183, 0, 159, 187, 0, 157, 89, 42, 183, 0, 159, 187, 0, 157, 89, 42]
abbrev dktX1_init_10 : List UInt8 := dkwX1_init_10 ++ dktX1_init_11
def dkwX1_init_9 : List UInt8 := [183, 0, 146, 181, 0, 151, 42, 187, 0, 14, 89, 183, 0, 146, 181, 0, 154, 42, 187, 0, 157, 89, 42]
abbrev dktX1_init_9 : List UInt8 := dkwX1_init_9 ++ dktX1_init_10
def dkwX1_init_8 : List UInt8 := [16, 25, 188, 10, 181, 0, 37, 42, 187, 0, 14, 89, 183, 0, 146, 181, 0, 147, 42, 187, 0, 14, 89]
abbrev dktX1_init_8 : List UInt8 := dkwX1_init_8 ++ dktX1_init_9
def dkwX1_init_7 : List UInt8 := [42, 16, 24, 7, 197, 0, 145, 2, 181, 0, 59, 42, 7, 188, 10, 181, 0, 79, 42, 4, 181, 0, 19, 42]
abbrev dktX1_init_7 : List UInt8 := dkwX1_init_7 ++ dktX1_init_8
def dkwX1_init_6 : List UInt8 := [83, 89, 16, 6, 42, 186, 0, 143, 0, 0, 83, 89, 16, 7, 42, 186, 0, 144, 0, 0, 83, 181, 0, 100]
abbrev dktX1_init_6 : List UInt8 := dkwX1_init_6 ++ dktX1_init_7
def dkwX1_init_5 : List UInt8 := [42, 186, 0, 138, 0, 0, 83, 89, 7, 42, 186, 0, 141, 0, 0, 83, 89, 8, 42, 186, 0, 142, 0, 0]
abbrev dktX1_init_5 : List UInt8 := dkwX1_init_5 ++ dktX1_init_6
def dkwX1_init_4 : List UInt8 := [186, 0, 133, 0, 0, 83, 89, 4, 186, 0, 136, 0, 0, 83, 89, 5, 186, 0, 137, 0, 0, 83, 89, 6]
abbrev dktX1_init_4 : List UInt8 := dkwX1_init_4 ++ dktX1_init_5
def dkwX1_init_3 : List UInt8 := [83, 89, 16, 7, 42, 186, 0, 132, 0, 0, 83, 181, 0, 88, 42, 16, 8, 189, 0, 105, 89, 3]
abbrev dktX1_init_3 : List UInt8 := dkwX1_init_3 ++ dktX1_init_4
def dkwX1_init_2 : List UInt8 := [42, 186, 0, 127, 0, 0, 83, 89, 8, 42, 186, 0, 130, 0, 0, 83, 89, 16, 6, 186, 0, 131, 0, 0]
abbrev dktX1_init_2 : List UInt8 := dkwX1_init_2 ++ dktX1_init_3
def dkwX1_init_1 : List UInt8 := [186, 0, 124, 0, 0, 83, 89, 5, 186, 0, 125, 0, 0, 83, 89, 6, 186, 0, 126, 0, 0, 83, 89, 7]
abbrev dktX1_init_1 : List UInt8 := dkwX1_init_1 ++ dktX1_init_2
def dkwX1_init_0 : List UInt8 := [42, 183, 0, 116, 42, 16, 8, 189, 0, 96, 89, 3, 186, 0, 121, 0, 0, 83, 89, 4]
abbrev dktX1_init_0 : List UInt8 := dkwX1_init_0 ++ dktX1_init_1
theorem dksX1_init_0 : cX1_init.data.toList.drop 0 = dktX1_init_0 := by decide +kernel
theorem dksX1_init_1 : cX1_init.data.toList.drop 20 = dktX1_init_1 := dk_seg dksX1_init_0 20 rfl rfl
theorem dksX1_init_2 : cX1_init.data.toList.drop 44 = dktX1_init_2 := dk_seg dksX1_init_1 24 rfl rfl
theorem dksX1_init_3 : cX1_init.data.toList.drop 68 = dktX1_init_3 := dk_seg dksX1_init_2 24 rfl rfl
theorem dksX1_init_4 : cX1_init.data.toList.drop 90 = dktX1_init_4 := dk_seg dksX1_init_3 22 rfl rfl
theorem dksX1_init_5 : cX1_init.data.toList.drop 114 = dktX1_init_5 := dk_seg dksX1_init_4 24 rfl rfl
theorem dksX1_init_6 : cX1_init.data.toList.drop 138 = dktX1_init_6 := dk_seg dksX1_init_5 24 rfl rfl
theorem dksX1_init_7 : cX1_init.data.toList.drop 162 = dktX1_init_7 := dk_seg dksX1_init_6 24 rfl rfl
theorem dksX1_init_8 : cX1_init.data.toList.drop 186 = dktX1_init_8 := dk_seg dksX1_init_7 24 rfl rfl
theorem dksX1_init_9 : cX1_init.data.toList.drop 209 = dktX1_init_9 := dk_seg dksX1_init_8 23 rfl rfl
theorem dksX1_init_10 : cX1_init.data.toList.drop 232 = dktX1_init_10 := dk_seg dksX1_init_9 23 rfl rfl
theorem dksX1_init_11 : cX1_init.data.toList.drop 256 = dktX1_init_11 := dk_seg dksX1_init_10 24 rfl rfl
theorem dksX1_init_12 : cX1_init.data.toList.drop 280 = dktX1_init_12 := dk_seg dksX1_init_11 24 rfl rfl
theorem dksX1_init_13 : cX1_init.data.toList.drop 302 = dktX1_init_13 := dk_seg dksX1_init_12 22 rfl rfl
theorem dksX1_init_14 : cX1_init.data.toList.drop 325 = dktX1_init_14 := dk_seg dksX1_init_13 23 rfl rfl
theorem dX1_init_0 : decode cX1_init 0 = .ok (.aload_n 0, 1) := dk_42 (dk_at dksX1_init_0 0 rfl rfl)
theorem dX1_init_1 : decode cX1_init 1 = .ok (.invokespecial 116, 3) := dk_183 0 116 (dk_at dksX1_init_0 1 rfl rfl)
theorem dX1_init_4 : decode cX1_init 4 = .ok (.aload_n 0, 1) := dk_42 (dk_at dksX1_init_0 4 rfl rfl)
theorem dX1_init_5 : decode cX1_init 5 = .ok (.bipush 8, 2) := dk_16 8 (dk_at dksX1_init_0 5 rfl rfl)
theorem dX1_init_7 : decode cX1_init 7 = .ok (.anewarray 96, 3) := dk_189 0 96 (dk_at dksX1_init_0 7 rfl rfl)
theorem dX1_init_10 : decode cX1_init 10 = .ok (.dup, 1) := dk_89 (dk_at dksX1_init_0 10 rfl rfl)
theorem dX1_init_11 : decode cX1_init 11 = .ok (.iconst 0, 1) := dk_3 (dk_at dksX1_init_0 11 rfl rfl)
theorem dX1_init_12 : decode cX1_init 12 = .ok (.invokedynamic 121, 5) := by decide +kernel
theorem dX1_init_17 : decode cX1_init 17 = .ok (.aastore, 1) := dk_83 (dk_at dksX1_init_0 17 rfl rfl)
theorem dX1_init_18 : decode cX1_init 18 = .ok (.dup, 1) := dk_89 (dk_at dksX1_init_0 18 rfl rfl)
theorem dX1_init_19 : decode cX1_init 19 = .ok (.iconst 1, 1) := dk_4 (dk_at dksX1_init_0 19 rfl rfl)
theorem dX1_init_20 : decode cX1_init 20 = .ok (.invokedynamic 124, 5) := by decide +kernel
theorem dX1_init_25 : decode cX1_init 25 = .ok (.aastore, 1) := dk_83 (dk_at dksX1_init_1 5 rfl rfl)
theorem dX1_init_26 : decode cX1_init 26 = .ok (.dup, 1) := dk_89 (dk_at dksX1_init_1 6 rfl rfl)
theorem dX1_init_27 : decode cX1_init 27 = .ok (.iconst 2, 1) := dk_5 (dk_at dksX1_init_1 7 rfl rfl)
theorem dX1_init_28 : decode cX1_init 28 = .ok (.invokedynamic 125, 5) := by decide +kernel
theorem dX1_init_33 : decode cX1_init 33 = .ok (.aastore, 1) := dk_83 (dk_at dksX1_init_1 13 rfl rfl)
theorem dX1_init_34 : decode cX1_init 34 = .ok (.dup, 1) := dk_89 (dk_at dksX1_init_1 14 rfl rfl)
theorem dX1_init_35 : decode cX1_init 35 = .ok (.iconst 3, 1) := dk_6 (dk_at dksX1_init_1 15 rfl rfl)
theorem dX1_init_36 : decode cX1_init 36 = .ok (.invokedynamic 126, 5) := by decide +kernel
theorem dX1_init_41 : decode cX1_init 41 = .ok (.aastore, 1) := dk_83 (dk_at dksX1_init_1 21 rfl rfl)
theorem dX1_init_42 : decode cX1_init 42 = .ok (.dup, 1) := dk_89 (dk_at dksX1_init_1 22 rfl rfl)
theorem dX1_init_43 : decode cX1_init 43 = .ok (.iconst 4, 1) := dk_7 (dk_at dksX1_init_1 23 rfl rfl)
theorem dX1_init_44 : decode cX1_init 44 = .ok (.aload_n 0, 1) := dk_42 (dk_at dksX1_init_2 0 rfl rfl)
theorem dX1_init_45 : decode cX1_init 45 = .ok (.invokedynamic 127, 5) := by decide +kernel
theorem dX1_init_50 : decode cX1_init 50 = .ok (.aastore, 1) := dk_83 (dk_at dksX1_init_2 6 rfl rfl)
theorem dX1_init_51 : decode cX1_init 51 = .ok (.dup, 1) := dk_89 (dk_at dksX1_init_2 7 rfl rfl)
theorem dX1_init_52 : decode cX1_init 52 = .ok (.iconst 5, 1) := dk_8 (dk_at dksX1_init_2 8 rfl rfl)
theorem dX1_init_53 : decode cX1_init 53 = .ok (.aload_n 0, 1) := dk_42 (dk_at dksX1_init_2 9 rfl rfl)
theorem dX1_init_54 : decode cX1_init 54 = .ok (.invokedynamic 130, 5) := by decide +kernel
theorem dX1_init_59 : decode cX1_init 59 = .ok (.aastore, 1) := dk_83 (dk_at dksX1_init_2 15 rfl rfl)
theorem dX1_init_60 : decode cX1_init 60 = .ok (.dup, 1) := dk_89 (dk_at dksX1_init_2 16 rfl rfl)
theorem dX1_init_61 : decode cX1_init 61 = .ok (.bipush 6, 2) := dk_16 6 (dk_at dksX1_init_2 17 rfl rfl)
theorem dX1_init_63 : decode cX1_init 63 = .ok (.invokedynamic 131, 5) := by decide +kernel
theorem dX1_init_68 : decode cX1_init 68 = .ok (.aastore, 1) := dk_83 (dk_at dksX1_init_3 0 rfl rfl)
theorem dX1_init_69 : decode cX1_init 69 = .ok (.dup, 1) := dk_89 (dk_at dksX1_init_3 1 rfl rfl)
theorem dX1_init_70 : decode cX1_init 70 = .ok (.bipush 7, 2) := dk_16 7 (dk_at dksX1_init_3 2 rfl rfl)
theorem dX1_init_72 : decode cX1_init 72 = .ok (.aload_n 0, 1) := dk_42 (dk_at dksX1_init_3 4 rfl rfl)
theorem dX1_init_73 : decode cX1_init 73 = .ok (.invokedynamic 132, 5) := by decide +kernel
theorem dX1_init_78 : decode cX1_init 78 = .ok (.aastore, 1) := dk_83 (dk_at dksX1_init_3 10 rfl rfl)
theorem dX1_init_79 : decode cX1_init 79 = .ok (.putfield 88, 3) := dk_181 0 88 (dk_at dksX1_init_3 11 rfl rfl)
theorem dX1_init_82 : decode cX1_init 82 = .ok (.aload_n 0, 1) := dk_42 (dk_at dksX1_init_3 14 rfl rfl)
theorem dX1_init_83 : decode cX1_init 83 = .ok (.bipush 8, 2) := dk_16 8 (dk_at dksX1_init_3 15 rfl rfl)
theorem dX1_init_85 : decode cX1_init 85 = .ok (.anewarray 105, 3) := dk_189 0 105 (dk_at dksX1_init_3 17 rfl rfl)
theorem dX1_init_88 : decode cX1_init 88 = .ok (.dup, 1) := dk_89 (dk_at dksX1_init_3 20 rfl rfl)
theorem dX1_init_89 : decode cX1_init 89 = .ok (.iconst 0, 1) := dk_3 (dk_at dksX1_init_3 21 rfl rfl)
theorem dX1_init_90 : decode cX1_init 90 = .ok (.invokedynamic 133, 5) := by decide +kernel
theorem dX1_init_95 : decode cX1_init 95 = .ok (.aastore, 1) := dk_83 (dk_at dksX1_init_4 5 rfl rfl)
theorem dX1_init_96 : decode cX1_init 96 = .ok (.dup, 1) := dk_89 (dk_at dksX1_init_4 6 rfl rfl)
theorem dX1_init_97 : decode cX1_init 97 = .ok (.iconst 1, 1) := dk_4 (dk_at dksX1_init_4 7 rfl rfl)
theorem dX1_init_98 : decode cX1_init 98 = .ok (.invokedynamic 136, 5) := by decide +kernel
theorem dX1_init_103 : decode cX1_init 103 = .ok (.aastore, 1) := dk_83 (dk_at dksX1_init_4 13 rfl rfl)
theorem dX1_init_104 : decode cX1_init 104 = .ok (.dup, 1) := dk_89 (dk_at dksX1_init_4 14 rfl rfl)
theorem dX1_init_105 : decode cX1_init 105 = .ok (.iconst 2, 1) := dk_5 (dk_at dksX1_init_4 15 rfl rfl)
theorem dX1_init_106 : decode cX1_init 106 = .ok (.invokedynamic 137, 5) := by decide +kernel
theorem dX1_init_111 : decode cX1_init 111 = .ok (.aastore, 1) := dk_83 (dk_at dksX1_init_4 21 rfl rfl)
theorem dX1_init_112 : decode cX1_init 112 = .ok (.dup, 1) := dk_89 (dk_at dksX1_init_4 22 rfl rfl)
theorem dX1_init_113 : decode cX1_init 113 = .ok (.iconst 3, 1) := dk_6 (dk_at dksX1_init_4 23 rfl rfl)
theorem dX1_init_114 : decode cX1_init 114 = .ok (.aload_n 0, 1) := dk_42 (dk_at dksX1_init_5 0 rfl rfl)
theorem dX1_init_115 : decode cX1_init 115 = .ok (.invokedynamic 138, 5) := by decide +kernel
theorem dX1_init_120 : decode cX1_init 120 = .ok (.aastore, 1) := dk_83 (dk_at dksX1_init_5 6 rfl rfl)
theorem dX1_init_121 : decode cX1_init 121 = .ok (.dup, 1) := dk_89 (dk_at dksX1_init_5 7 rfl rfl)
theorem dX1_init_122 : decode cX1_init 122 = .ok (.iconst 4, 1) := dk_7 (dk_at dksX1_init_5 8 rfl rfl)
theorem dX1_init_123 : decode cX1_init 123 = .ok (.aload_n 0, 1) := dk_42 (dk_at dksX1_init_5 9 rfl rfl)
theorem dX1_init_124 : decode cX1_init 124 = .ok (.invokedynamic 141, 5) := by decide +kernel
theorem dX1_init_129 : decode cX1_init 129 = .ok (.aastore, 1) := dk_83 (dk_at dksX1_init_5 15 rfl rfl)
theorem dX1_init_130 : decode cX1_init 130 = .ok (.dup, 1) := dk_89 (dk_at dksX1_init_5 16 rfl rfl)
theorem dX1_init_131 : decode cX1_init 131 = .ok (.iconst 5, 1) := dk_8 (dk_at dksX1_init_5 17 rfl rfl)
theorem dX1_init_132 : decode cX1_init 132 = .ok (.aload_n 0, 1) := dk_42 (dk_at dksX1_init_5 18 rfl rfl)
theorem dX1_init_133 : decode cX1_init 133 = .ok (.invokedynamic 142, 5) := by decide +kernel
theorem dX1_init_138 : decode cX1_init 138 = .ok (.aastore, 1) := dk_83 (dk_at dksX1_init_6 0 rfl rfl)
theorem dX1_init_139 : decode cX1_init 139 = .ok (.dup, 1) := dk_89 (dk_at dksX1_init_6 1 rfl rfl)
theorem dX1_init_140 : decode cX1_init 140 = .ok (.bipush 6, 2) := dk_16 6 (dk_at dksX1_init_6 2 rfl rfl)
theorem dX1_init_142 : decode cX1_init 142 = .ok (.aload_n 0, 1) := dk_42 (dk_at dksX1_init_6 4 rfl rfl)
theorem dX1_init_143 : decode cX1_init 143 = .ok (.invokedynamic 143, 5) := by decide +kernel
theorem dX1_init_148 : decode cX1_init 148 = .ok (.aastore, 1) := dk_83 (dk_at dksX1_init_6 10 rfl rfl)
theorem dX1_init_149 : decode cX1_init 149 = .ok (.dup, 1) := dk_89 (dk_at dksX1_init_6 11 rfl rfl)
theorem dX1_init_150 : decode cX1_init 150 = .ok (.bipush 7, 2) := dk_16 7 (dk_at dksX1_init_6 12 rfl rfl)
theorem dX1_init_152 : decode cX1_init 152 = .ok (.aload_n 0, 1) := dk_42 (dk_at dksX1_init_6 14 rfl rfl)
theorem dX1_init_153 : decode cX1_init 153 = .ok (.invokedynamic 144, 5) := by decide +kernel
theorem dX1_init_158 : decode cX1_init 158 = .ok (.aastore, 1) := dk_83 (dk_at dksX1_init_6 20 rfl rfl)
theorem dX1_init_159 : decode cX1_init 159 = .ok (.putfield 100, 3) := dk_181 0 100 (dk_at dksX1_init_6 21 rfl rfl)
theorem dX1_init_162 : decode cX1_init 162 = .ok (.aload_n 0, 1) := dk_42 (dk_at dksX1_init_7 0 rfl rfl)
theorem dX1_init_163 : decode cX1_init 163 = .ok (.bipush 24, 2) := dk_16 24 (dk_at dksX1_init_7 1 rfl rfl)
theorem dX1_init_165 : decode cX1_init 165 = .ok (.iconst 4, 1) := dk_7 (dk_at dksX1_init_7 3 rfl rfl)
theorem dX1_init_166 : decode cX1_init 166 = .ok (.multianewarray 145 2, 4) := by decide +kernel
theorem dX1_init_170 : decode cX1_init 170 = .ok (.putfield 59, 3) := dk_181 0 59 (dk_at dksX1_init_7 8 rfl rfl)
theorem dX1_init_173 : decode cX1_init 173 = .ok (.aload_n 0, 1) := dk_42 (dk_at dksX1_init_7 11 rfl rfl)
theorem dX1_init_174 : decode cX1_init 174 = .ok (.iconst 4, 1) := dk_7 (dk_at dksX1_init_7 12 rfl rfl)
theorem dX1_init_175 : decode cX1_init 175 = .ok (.newarray .int, 2) := dk_188_10 (dk_at dksX1_init_7 13 rfl rfl)
theorem dX1_init_177 : decode cX1_init 177 = .ok (.putfield 79, 3) := dk_181 0 79 (dk_at dksX1_init_7 15 rfl rfl)
theorem dX1_init_180 : decode cX1_init 180 = .ok (.aload_n 0, 1) := dk_42 (dk_at dksX1_init_7 18 rfl rfl)
theorem dX1_init_181 : decode cX1_init 181 = .ok (.iconst 1, 1) := dk_4 (dk_at dksX1_init_7 19 rfl rfl)
theorem dX1_init_182 : decode cX1_init 182 = .ok (.putfield 19, 3) := dk_181 0 19 (dk_at dksX1_init_7 20 rfl rfl)
theorem dX1_init_185 : decode cX1_init 185 = .ok (.aload_n 0, 1) := dk_42 (dk_at dksX1_init_7 23 rfl rfl)
theorem dX1_init_186 : decode cX1_init 186 = .ok (.bipush 25, 2) := dk_16 25 (dk_at dksX1_init_8 0 rfl rfl)
theorem dX1_init_188 : decode cX1_init 188 = .ok (.newarray .int, 2) := dk_188_10 (dk_at dksX1_init_8 2 rfl rfl)
theorem dX1_init_190 : decode cX1_init 190 = .ok (.putfield 37, 3) := dk_181 0 37 (dk_at dksX1_init_8 4 rfl rfl)
theorem dX1_init_193 : decode cX1_init 193 = .ok (.aload_n 0, 1) := dk_42 (dk_at dksX1_init_8 7 rfl rfl)
theorem dX1_init_194 : decode cX1_init 194 = .ok (.new 14, 3) := dk_187 0 14 (dk_at dksX1_init_8 8 rfl rfl)
theorem dX1_init_197 : decode cX1_init 197 = .ok (.dup, 1) := dk_89 (dk_at dksX1_init_8 11 rfl rfl)
theorem dX1_init_198 : decode cX1_init 198 = .ok (.invokespecial 146, 3) := dk_183 0 146 (dk_at dksX1_init_8 12 rfl rfl)
theorem dX1_init_201 : decode cX1_init 201 = .ok (.putfield 147, 3) := dk_181 0 147 (dk_at dksX1_init_8 15 rfl rfl)
theorem dX1_init_204 : decode cX1_init 204 = .ok (.aload_n 0, 1) := dk_42 (dk_at dksX1_init_8 18 rfl rfl)
theorem dX1_init_205 : decode cX1_init 205 = .ok (.new 14, 3) := dk_187 0 14 (dk_at dksX1_init_8 19 rfl rfl)
theorem dX1_init_208 : decode cX1_init 208 = .ok (.dup, 1) := dk_89 (dk_at dksX1_init_8 22 rfl rfl)
theorem dX1_init_209 : decode cX1_init 209 = .ok (.invokespecial 146, 3) := dk_183 0 146 (dk_at dksX1_init_9 0 rfl rfl)
theorem dX1_init_212 : decode cX1_init 212 = .ok (.putfield 151, 3) := dk_181 0 151 (dk_at dksX1_init_9 3 rfl rfl)
theorem dX1_init_215 : decode cX1_init 215 = .ok (.aload_n 0, 1) := dk_42 (dk_at dksX1_init_9 6 rfl rfl)
theorem dX1_init_216 : decode cX1_init 216 = .ok (.new 14, 3) := dk_187 0 14 (dk_at dksX1_init_9 7 rfl rfl)
theorem dX1_init_219 : decode cX1_init 219 = .ok (.dup, 1) := dk_89 (dk_at dksX1_init_9 10 rfl rfl)
theorem dX1_init_220 : decode cX1_init 220 = .ok (.invokespecial 146, 3) := dk_183 0 146 (dk_at dksX1_init_9 11 rfl rfl)
theorem dX1_init_223 : decode cX1_init 223 = .ok (.putfield 154, 3) := dk_181 0 154 (dk_at dksX1_init_9 14 rfl rfl)
theorem dX1_init_226 : decode cX1_init 226 = .ok (.aload_n 0, 1) := dk_42 (dk_at dksX1_init_9 17 rfl rfl)
theorem dX1_init_227 : decode cX1_init 227 = .ok (.new 157, 3) := dk_187 0 157 (dk_at dksX1_init_9 18 rfl rfl)
theorem dX1_init_230 : decode cX1_init 230 = .ok (.dup, 1) := dk_89 (dk_at dksX1_init_9 21 rfl rfl)
theorem dX1_init_231 : decode cX1_init 231 = .ok (.aload_n 0, 1) := dk_42 (dk_at dksX1_init_9 22 rfl rfl)
theorem dX1_init_232 : decode cX1_init 232 = .ok (.invokespecial 159, 3) := dk_183 0 159 (dk_at dksX1_init_10 0 rfl rfl)
theorem dX1_init_235 : decode cX1_init 235 = .ok (.new 157, 3) := dk_187 0 157 (dk_at dksX1_init_10 3 rfl rfl)
theorem dX1_init_238 : decode cX1_init 238 = .ok (.dup, 1) := dk_89 (dk_at dksX1_init_10 6 rfl rfl)
theorem dX1_init_239 : decode cX1_init 239 = .ok (.aload_n 0, 1) := dk_42 (dk_at dksX1_init_10 7 rfl rfl)
theorem dX1_init_240 : decode cX1_init 240 = .ok (.invokespecial 159, 3) := dk_183 0 159 (dk_at dksX1_init_10 8 rfl rfl)
theorem dX1_init_243 : decode cX1_init 243 = .ok (.new 157, 3) := dk_187 0 157 (dk_at dksX1_init_10 11 rfl rfl)
theorem dX1_init_246 : decode cX1_init 246 = .ok (.dup, 1) := dk_89 (dk_at dksX1_init_10 14 rfl rfl)
theorem dX1_init_247 : decode cX1_init 247 = .ok (.aload_n 0, 1) := dk_42 (dk_at dksX1_init_10 15 rfl rfl)
theorem dX1_init_248 : decode cX1_init 248 = .ok (.invokespecial 159, 3) := dk_183 0 159 (dk_at dksX1_init_10 16 rfl rfl)
theorem dX1_init_251 : decode cX1_init 251 = .ok (.new 157, 3) := dk_187 0 157 (dk_at dksX1_init_10 19 rfl rfl)
theorem dX1_init_254 : decode cX1_init 254 = .ok (.dup, 1) := dk_89 (dk_at dksX1_init_10 22 rfl rfl)
theorem dX1_init_255 : decode cX1_init 255 = .ok (.aload_n 0, 1) := dk_42 (dk_at dksX1_init_10 23 rfl rfl)
theorem dX1_init_256 : decode cX1_init 256 = .ok (.invokespecial 159, 3) := dk_183 0 159 (dk_at dksX1_init_11 0 rfl rfl)
theorem dX1_init_259 : decode cX1_init 259 = .ok (.invokestatic 49, 3) := dk_184 0 49 (dk_at dksX1_init_11 3 rfl rfl)
theorem dX1_init_262 : decode cX1_init 262 = .ok (.putfield 162, 3) := dk_181 0 162 (dk_at dksX1_init_11 6 rfl rfl)
theorem dX1_init_265 : decode cX1_init 265 = .ok (.aload_n 0, 1) := dk_42 (dk_at dksX1_init_11 9 rfl rfl)
theorem dX1_init_266 : decode cX1_init 266 = .ok (.new 157, 3) := dk_187 0 157 (dk_at dksX1_init_11 10 rfl rfl)
theorem dX1_init_269 : decode cX1_init 269 = .ok (.dup, 1) := dk_89 (dk_at dksX1_init_11 13 rfl rfl)
theorem dX1_init_270 : decode cX1_init 270 = .ok (.aload_n 0, 1) := dk_42 (dk_at dksX1_init_11 14 rfl rfl)
theorem dX1_init_271 : decode cX1_init 271 = .ok (.invokespecial 159, 3) := dk_183 0 159 (dk_at dksX1_init_11 15 rfl rfl)
theorem dX1_init_274 : decode cX1_init 274 = .ok (.putfield 166, 3) := dk_181 0 166 (dk_at dksX1_init_11 18 rfl rfl)
theorem dX1_init_277 : decode cX1_init 277 = .ok (.aload_n 0, 1) := dk_42 (dk_at dksX1_init_11 21 rfl rfl)
theorem dX1_init_278 : decode cX1_init 278 = .ok (.bipush 64, 2) := dk_16 64 (dk_at dksX1_init_11 22 rfl rfl)
theorem dX1_init_280 : decode cX1_init 280 = .ok (.newarray .int, 2) := dk_188_10 (dk_at dksX1_init_12 0 rfl rfl)
theorem dX1_init_282 : decode cX1_init 282 = .ok (.putfield 170, 3) := dk_181 0 170 (dk_at dksX1_init_12 2 rfl rfl)
theorem dX1_init_285 : decode cX1_init 285 = .ok (.aload_n 0, 1) := dk_42 (dk_at dksX1_init_12 5 rfl rfl)
theorem dX1_init_286 : decode cX1_init 286 = .ok (.bipush 64, 2) := dk_16 64 (dk_at dksX1_init_12 6 rfl rfl)
theorem dX1_init_288 : decode cX1_init 288 = .ok (.newarray .int, 2) := dk_188_10 (dk_at dksX1_init_12 8 rfl rfl)
theorem dX1_init_290 : decode cX1_init 290 = .ok (.putfield 173, 3) := dk_181 0 173 (dk_at dksX1_init_12 10 rfl rfl)
theorem dX1_init_293 : decode cX1_init 293 = .ok (.aload_n 0, 1) := dk_42 (dk_at dksX1_init_12 13 rfl rfl)
theorem dX1_init_294 : decode cX1_init 294 = .ok (.bipush 100, 2) := dk_16 100 (dk_at dksX1_init_12 14 rfl rfl)
theorem dX1_init_296 : decode cX1_init 296 = .ok (.newarray .byte, 2) := dk_188_8 (dk_at dksX1_init_12 16 rfl rfl)
theorem dX1_init_298 : decode cX1_init 298 = .ok (.putfield 176, 3) := dk_181 0 176 (dk_at dksX1_init_12 18 rfl rfl)
theorem dX1_init_301 : decode cX1_init 301 = .ok (.aload_n 0, 1) := dk_42 (dk_at dksX1_init_12 21 rfl rfl)
theorem dX1_init_302 : decode cX1_init 302 = .ok (.sipush 128, 3) := dk_17 0 128 (dk_at dksX1_init_13 0 rfl rfl)
theorem dX1_init_305 : decode cX1_init 305 = .ok (.newarray .long, 2) := dk_188_11 (dk_at dksX1_init_13 3 rfl rfl)
theorem dX1_init_307 : decode cX1_init 307 = .ok (.putfield 180, 3) := dk_181 0 180 (dk_at dksX1_init_13 5 rfl rfl)
theorem dX1_init_310 : decode cX1_init 310 = .ok (.aload_n 0, 1) := dk_42 (dk_at dksX1_init_13 8 rfl rfl)
theorem dX1_init_311 : decode cX1_init 311 = .ok (.sipush 128, 3) := dk_17 0 128 (dk_at dksX1_init_13 9 rfl rfl)
theorem dX1_init_314 : decode cX1_init 314 = .ok (.newarray .long, 2) := dk_188_11 (dk_at dksX1_init_13 12 rfl rfl)
theorem dX1_init_316 : decode cX1_init 316 = .ok (.putfield 184, 3) := dk_181 0 184 (dk_at dksX1_init_13 14 rfl rfl)
theorem dX1_init_319 : decode cX1_init 319 = .ok (.aload_n 0, 1) := dk_42 (dk_at dksX1_init_13 17 rfl rfl)
theorem dX1_init_320 : decode cX1_init 320 = .ok (.sipush 128, 3) := dk_17 0 128 (dk_at dksX1_init_13 18 rfl rfl)
theorem dX1_init_323 : decode cX1_init 323 = .ok (.newarray .long, 2) := dk_188_11 (dk_at dksX1_init_13 21 rfl rfl)
theorem dX1_init_325 : decode cX1_init 325 = .ok (.putfield 187, 3) := dk_181 0 187 (dk_at dksX1_init_14 0 rfl rfl)
theorem dX1_init_328 : decode cX1_init 328 = .ok (.aload_n 0, 1) := dk_42 (dk_at dksX1_init_14 3 rfl rfl)
theorem dX1_init_329 : decode cX1_init 329 = .ok (.bipush 64, 2) := dk_16 64 (dk_at dksX1_init_14 4 rfl rfl)
theorem dX1_init_331 : decode cX1_init 331 = .ok (.newarray .long, 2) := dk_188_11 (dk_at dksX1_init_14 6 rfl rfl)
theorem dX1_init_333 : decode cX1_init 333 = .ok (.putfield 190, 3) := dk_181 0 190 (dk_at dksX1_init_14 8 rfl rfl)
theorem dX1_init_336 : decode cX1_init 336 = .ok (.aload_n 0, 1) := dk_42 (dk_at dksX1_init_14 11 rfl rfl)
theorem dX1_init_337 : decode cX1_init 337 = .ok (.bipush 64, 2) := dk_16 64 (dk_at dksX1_init_14 12 rfl rfl)
theorem dX1_init_339 : decode cX1_init 339 = .ok (.newarray .long, 2) := dk_188_11 (dk_at dksX1_init_14 14 rfl rfl)
theorem dX1_init_341 : decode cX1_init 341 = .ok (.putfield 193, 3) := dk_181 0 193 (dk_at dksX1_init_14 16 rfl rfl)
theorem dX1_init_344 : decode cX1_init 344 = .ok (.aload_n 0, 1) := dk_42 (dk_at dksX1_init_14 19 rfl rfl)
theorem dX1_init_345 : decode cX1_init 345 = .ok (.invokevirtual 196, 3) := dk_182 0 196 (dk_at dksX1_init_14 20 rfl rfl)
theorem dX1_init_348 : decode cX1_init 348 = .ok (.return_, 1) := dk_177 (dk_at dksX1_init_14 23 rfl rfl)
def dkwX1_lambda_new_0_0 : List UInt8 := [42, 27, 133, 10, 182, 0, 13, 177]
abbrev dktX1_lambda_new_0_0 : List UInt8 := dkwX1_lambda_new_0_0 ++ []
theorem dksX1_lambda_new_0_0 : cX1_lambda_new_0.data.toList.drop 0 = dktX1_lambda_new_0_0 := by decide +kernel
theorem dX1_lambda_new_0_0 : decode cX1_lambda_new_0 0 = .ok (.aload_n 0, 1) := dk_42 (dk_at dksX1_lambda_new_0_0 0 rfl rfl)
theorem dX1_lambda_new_0_1 : decode cX1_lambda_new_0 1 = .ok (.iload_n 1, 1) := dk_27 (dk_at dksX1_lambda_new_0_0 1 rfl rfl)
theorem dX1_lambda_new_0_2 : decode cX1_lambda_new_0 2 = .ok (.i2l, 1) := dk_133 (dk_at dksX1_lambda_new_0_0 2 rfl rfl)
theorem dX1_lambda_new_0_3 : decode cX1_lambda_new_0 3 = .ok (.lconst 1, 1) := dk_10 (dk_at dksX1_lambda_new_0_0 3 rfl rfl)
theorem dX1_lambda_new_0_4 : decode cX1_lambda_new_0 4 = .ok (.invokevirtual 13, 3) := dk_182 0 13 (dk_at dksX1_lambda_new_0_0 4 rfl rfl)
theorem dX1_lambda_new_0_7 : decode cX1_lambda_new_0 7 = .ok (.return_, 1) := dk_177 (dk_at dksX1_lambda_new_0_0 7 rfl rfl)
def dkwX1_lambda_new_1_0 : List UInt8 := [42, 27, 133, 27, 133, 182, 0, 13, 177]
abbrev dktX1_lambda_new_1_0 : List UInt8 := dkwX1_lambda_new_1_0 ++ []
theorem dksX1_lambda_new_1_0 : cX1_lambda_new_1.data.toList.drop 0 = dktX1_lambda_new_1_0 := by decide +kernel
theorem dX1_lambda_new_1_0 : decode cX1_lambda_new_1 0 = .ok (.aload_n 0, 1) := dk_42 (dk_at dksX1_lambda_new_1_0 0 rfl rfl)
theorem dX1_lambda_new_1_1 : decode cX1_lambda_new_1 1 = .ok (.iload_n 1, 1) := dk_27 (dk_at dksX1_lambda_new_1_0 1 rfl rfl)
theorem dX1_lambda_new_1_2 : decode cX1_lambda_new_1 2 = .ok (.i2l, 1) := dk_133 (dk_at dksX1_lambda_new_1_0 2 rfl rfl)
theorem dX1_lambda_new_1_3 : decode cX1_lambda_new_1 3 = .ok (.iload_n 1, 1) := dk_27 (dk_at dksX1_lambda_new_1_0 3 rfl rfl)
theorem dX1_lambda_new_1_4 : decode cX1_lambda_new_1 4 = .ok (.i2l, 1) := dk_133 (dk_at dksX1_lambda_new_1_0 4 rfl rfl)
theorem dX1_lambda_new_1_5 : decode cX1_lambda_new_1 5 = .ok (.invokevirtual 13, 3) := dk_182 0 13 (dk_at dksX1_lambda_new_1_0 5 rfl rfl)
theorem dX1_lambda_new_1_8 : decode cX1_lambda_new_1 8 = .ok (.return_, 1) := dk_177 (dk_at dksX1_lambda_new_1_0 8 rfl rfl)
def dkwX1_lambda_new_2_0 : List UInt8 := [42, 27, 133, 27, 133, 182, 0, 13, 177]
abbrev dktX1_lambda_new_2_0 : List UInt8 := dkwX1_lambda_new_2_0 ++ []
theorem dksX1_lambda_new_2_0 : cX1_lambda_new_2.data.toList.drop 0 = dktX1_lambda_new_2_0 := by decide +kernel
theorem dX1_lambda_new_2_0 : decode cX1_lambda_new_2 0 = .ok (.aload_n 0, 1) := dk_42 (dk_at dksX1_lambda_new_2_0 0 rfl rfl)
theorem dX1_lambda_new_2_1 : decode cX1_lambda_new_2 1 = .ok (.iload_n 1, 1) := dk_27 (dk_at dksX1_lambda_new_2_0 1 rfl rfl)
theorem dX1_lambda_new_2_2 : decode cX1_lambda_new_2 2 = .ok (.i2l, 1) := dk_133 (dk_at dksX1_lambda_new_2_0 2 rfl rfl)
theorem dX1_lambda_new_2_3 : decode cX1_lambda_new_2 3 = .ok (.iload_n 1, 1) := dk_27 (dk_at dksX1_lambda_new_2_0 3 rfl rfl)
theorem dX1_lambda_new_2_4 : decode cX1_lambda_new_2 4 = .ok (.i2l, 1) := dk_133 (dk_at dksX1_lambda_new_2_0 4 rfl rfl)
theorem dX1_lambda_new_2_5 : decode cX1_lambda_new_2 5 = .ok (.invokevirtual 13, 3) := dk_182 0 13 (dk_at dksX1_lambda_new_2_0 5 rfl rfl)
theorem dX1_lambda_new_2_8 : decode cX1_lambda_new_2 8 = .ok (.return_, 1) := dk_177 (dk_at dksX1_lambda_new_2_0 8 rfl rfl)
def dkwX1_lambda_new_3_0 : List UInt8 := [42, 27, 16, 101, 108, 16, 101, 112, 133, 27, 16, 101, 112, 133, 182, 0, 13, 177]
abbrev dktX1_lambda_new_3_0 : List UInt8 := dkwX1_lambda_new_3_0 ++ []
theorem dksX1_lambda_new_3_0 : cX1_lambda_new_3.data.toList.drop 0 = dktX1_lambda_new_3_0 := by decide +kernel
theorem dX1_lambda_new_3_0 : decode cX1_lambda_new_3 0 = .ok (.aload_n 0, 1) := dk_42 (dk_at dksX1_lambda_new_3_0 0 rfl rfl)
theorem dX1_lambda_new_3_1 : decode cX1_lambda_new_3 1 = .ok (.iload_n 1, 1) := dk_27 (dk_at dksX1_lambda_new_3_0 1 rfl rfl)
theorem dX1_lambda_new_3_2 : decode cX1_lambda_new_3 2 = .ok (.bipush 101, 2) := dk_16 101 (dk_at dksX1_lambda_new_3_0 2 rfl rfl)
theorem dX1_lambda_new_3_4 : decode cX1_lambda_new_3 4 = .ok (.idiv, 1) := dk_108 (dk_at dksX1_lambda_new_3_0 4 rfl rfl)
theorem dX1_lambda_new_3_5 : decode cX1_lambda_new_3 5 = .ok (.bipush 101, 2) := dk_16 101 (dk_at dksX1_lambda_new_3_0 5 rfl rfl)
theorem dX1_lambda_new_3_7 : decode cX1_lambda_new_3 7 = .ok (.irem, 1) := dk_112 (dk_at dksX1_lambda_new_3_0 7 rfl rfl)
theorem dX1_lambda_new_3_8 : decode cX1_lambda_new_3 8 = .ok (.i2l, 1) := dk_133 (dk_at dksX1_lambda_new_3_0 8 rfl rfl)
theorem dX1_lambda_new_3_9 : decode cX1_lambda_new_3 9 = .ok (.iload_n 1, 1) := dk_27 (dk_at dksX1_lambda_new_3_0 9 rfl rfl)
theorem dX1_lambda_new_3_10 : decode cX1_lambda_new_3 10 = .ok (.bipush 101, 2) := dk_16 101 (dk_at dksX1_lambda_new_3_0 10 rfl rfl)
theorem dX1_lambda_new_3_12 : decode cX1_lambda_new_3 12 = .ok (.irem, 1) := dk_112 (dk_at dksX1_lambda_new_3_0 12 rfl rfl)
theorem dX1_lambda_new_3_13 : decode cX1_lambda_new_3 13 = .ok (.i2l, 1) := dk_133 (dk_at dksX1_lambda_new_3_0 13 rfl rfl)
theorem dX1_lambda_new_3_14 : decode cX1_lambda_new_3 14 = .ok (.invokevirtual 13, 3) := dk_182 0 13 (dk_at dksX1_lambda_new_3_0 14 rfl rfl)
theorem dX1_lambda_new_3_17 : decode cX1_lambda_new_3 17 = .ok (.return_, 1) := dk_177 (dk_at dksX1_lambda_new_3_0 17 rfl rfl)
def dkwX1_bracket_1 : List UInt8 := [29, 133, 9, 182, 0, 13, 177]
abbrev dktX1_bracket_1 : List UInt8 := dkwX1_bracket_1 ++ []
def dkwX1_bracket_0 : List UInt8 := [28, 5, 108, 16, 10, 112, 62, 28, 5, 112, 154, 0, 13, 43, 9, 29, 133, 182, 0, 13, 167, 0, 10, 43]
abbrev dktX1_bracket_0 : List UInt8 := dkwX1_bracket_0 ++ dktX1_bracket_1
theorem dksX1_bracket_0 : cX1_bracket.data.toList.drop 0 = dktX1_bracket_0 := by decide +kernel
theorem dksX1_bracket_1 : cX1_bracket.data.toList.drop 24 = dktX1_bracket_1 := dk_seg dksX1_bracket_0 24 rfl rfl
theorem dX1_bracket_0 : decode cX1_bracket 0 = .ok (.iload_n 2, 1) := dk_28 (dk_at dksX1_bracket_0 0 rfl rfl)
theorem dX1_bracket_1 : decode cX1_bracket 1 = .ok (.iconst 2, 1) := dk_5 (dk_at dksX1_bracket_0 1 rfl rfl)
theorem dX1_bracket_2 : decode cX1_bracket 2 = .ok (.idiv, 1) := dk_108 (dk_at dksX1_bracket_0 2 rfl rfl)
theorem dX1_bracket_3 : decode cX1_bracket 3 = .ok (.bipush 10, 2) := dk_16 10 (dk_at dksX1_bracket_0 3 rfl rfl)
theorem dX1_bracket_5 : decode cX1_bracket 5 = .ok (.irem, 1) := dk_112 (dk_at dksX1_bracket_0 5 rfl rfl)
theorem dX1_bracket_6 : decode cX1_bracket 6 = .ok (.istore_n 3, 1) := dk_62 (dk_at dksX1_bracket_0 6 rfl rfl)
theorem dX1_bracket_7 : decode cX1_bracket 7 = .ok (.iload_n 2, 1) := dk_28 (dk_at dksX1_bracket_0 7 rfl rfl)
theorem dX1_bracket_8 : decode cX1_bracket 8 = .ok (.iconst 2, 1) := dk_5 (dk_at dksX1_bracket_0 8 rfl rfl)
theorem dX1_bracket_9 : decode cX1_bracket 9 = .ok (.irem, 1) := dk_112 (dk_at dksX1_bracket_0 9 rfl rfl)
theorem dX1_bracket_10 : decode cX1_bracket 10 = .ok (.ifCond .ne 13, 3) := dk_154 0 13 (dk_at dksX1_bracket_0 10 rfl rfl)
theorem dX1_bracket_13 : decode cX1_bracket 13 = .ok (.aload_n 1, 1) := dk_43 (dk_at dksX1_bracket_0 13 rfl rfl)
theorem dX1_bracket_14 : decode cX1_bracket 14 = .ok (.lconst 0, 1) := dk_9 (dk_at dksX1_bracket_0 14 rfl rfl)
theorem dX1_bracket_15 : decode cX1_bracket 15 = .ok (.iload_n 3, 1) := dk_29 (dk_at dksX1_bracket_0 15 rfl rfl)
theorem dX1_bracket_16 : decode cX1_bracket 16 = .ok (.i2l, 1) := dk_133 (dk_at dksX1_bracket_0 16 rfl rfl)
theorem dX1_bracket_17 : decode cX1_bracket 17 = .ok (.invokevirtual 13, 3) := dk_182 0 13 (dk_at dksX1_bracket_0 17 rfl rfl)
theorem dX1_bracket_20 : decode cX1_bracket 20 = .ok (.goto 10, 3) := dk_167 0 10 (dk_at dksX1_bracket_0 20 rfl rfl)
theorem dX1_bracket_23 : decode cX1_bracket 23 = .ok (.aload_n 1, 1) := dk_43 (dk_at dksX1_bracket_0 23 rfl rfl)
theorem dX1_bracket_24 : decode cX1_bracket 24 = .ok (.iload_n 3, 1) := dk_29 (dk_at dksX1_bracket_1 0 rfl rfl)
theorem dX1_bracket_25 : decode cX1_bracket 25 = .ok (.i2l, 1) := dk_133 (dk_at dksX1_bracket_1 1 rfl rfl)
theorem dX1_bracket_26 : decode cX1_bracket 26 = .ok (.lconst 0, 1) := dk_9 (dk_at dksX1_bracket_1 2 rfl rfl)
theorem dX1_bracket_27 : decode cX1_bracket 27 = .ok (.invokevirtual 13, 3) := dk_182 0 13 (dk_at dksX1_bracket_1 3 rfl rfl)
theorem dX1_bracket_30 : decode cX1_bracket 30 = .ok (.return_, 1) := dk_177 (dk_at dksX1_bracket_1 6 rfl rfl)
def dkwX1_lambda_new_4_0 : List UInt8 := [43, 28, 16, 24, 112, 133, 42, 28, 16, 24, 112, 182, 1, 187, 5, 112, 133, 182, 0, 13, 177]
abbrev dktX1_lambda_new_4_0 : List UInt8 := dkwX1_lambda_new_4_0 ++ []
theorem dksX1_lambda_new_4_0 : cX1_lambda_new_4.data.toList.drop 0 = dktX1_lambda_new_4_0 := by decide +kernel
theorem dX1_lambda_new_4_0 : decode cX1_lambda_new_4 0 = .ok (.aload_n 1, 1) := dk_43 (dk_at dksX1_lambda_new_4_0 0 rfl rfl)
theorem dX1_lambda_new_4_1 : decode cX1_lambda_new_4 1 = .ok (.iload_n 2, 1) := dk_28 (dk_at dksX1_lambda_new_4_0 1 rfl rfl)
theorem dX1_lambda_new_4_2 : decode cX1_lambda_new_4 2 = .ok (.bipush 24, 2) := dk_16 24 (dk_at dksX1_lambda_new_4_0 2 rfl rfl)
theorem dX1_lambda_new_4_4 : decode cX1_lambda_new_4 4 = .ok (.irem, 1) := dk_112 (dk_at dksX1_lambda_new_4_0 4 rfl rfl)
theorem dX1_lambda_new_4_5 : decode cX1_lambda_new_4 5 = .ok (.i2l, 1) := dk_133 (dk_at dksX1_lambda_new_4_0 5 rfl rfl)
theorem dX1_lambda_new_4_6 : decode cX1_lambda_new_4 6 = .ok (.aload_n 0, 1) := dk_42 (dk_at dksX1_lambda_new_4_0 6 rfl rfl)
theorem dX1_lambda_new_4_7 : decode cX1_lambda_new_4 7 = .ok (.iload_n 2, 1) := dk_28 (dk_at dksX1_lambda_new_4_0 7 rfl rfl)
theorem dX1_lambda_new_4_8 : decode cX1_lambda_new_4 8 = .ok (.bipush 24, 2) := dk_16 24 (dk_at dksX1_lambda_new_4_0 8 rfl rfl)
theorem dX1_lambda_new_4_10 : decode cX1_lambda_new_4 10 = .ok (.irem, 1) := dk_112 (dk_at dksX1_lambda_new_4_0 10 rfl rfl)
theorem dX1_lambda_new_4_11 : decode cX1_lambda_new_4 11 = .ok (.invokevirtual 443, 3) := dk_182 1 187 (dk_at dksX1_lambda_new_4_0 11 rfl rfl)
theorem dX1_lambda_new_4_14 : decode cX1_lambda_new_4 14 = .ok (.iconst 2, 1) := dk_5 (dk_at dksX1_lambda_new_4_0 14 rfl rfl)
theorem dX1_lambda_new_4_15 : decode cX1_lambda_new_4 15 = .ok (.irem, 1) := dk_112 (dk_at dksX1_lambda_new_4_0 15 rfl rfl)
theorem dX1_lambda_new_4_16 : decode cX1_lambda_new_4 16 = .ok (.i2l, 1) := dk_133 (dk_at dksX1_lambda_new_4_0 16 rfl rfl)
theorem dX1_lambda_new_4_17 : decode cX1_lambda_new_4 17 = .ok (.invokevirtual 13, 3) := dk_182 0 13 (dk_at dksX1_lambda_new_4_0 17 rfl rfl)
theorem dX1_lambda_new_4_20 : decode cX1_lambda_new_4 20 = .ok (.return_, 1) := dk_177 (dk_at dksX1_lambda_new_4_0 20 rfl rfl)
def dkwX1_leaps_2 : List UInt8 := [132, 4, 1, 167, 255, 219, 132, 3, 1, 167, 255, 205, 28, 172]
abbrev dktX1_leaps_2 : List UInt8 := dkwX1_leaps_2 ++ []
def dkwX1_leaps_1 : List UInt8 := [50, 21, 4, 46, 42, 180, 0, 59, 27, 50, 29, 46, 164, 0, 7, 4, 167, 0, 4, 3, 96, 61]
abbrev dktX1_leaps_1 : List UInt8 := dkwX1_leaps_1 ++ dktX1_leaps_2
def dkwX1_leaps_0 : List UInt8 := [3, 61, 3, 62, 29, 7, 162, 0, 52, 3, 54, 4, 21, 4, 29, 162, 0, 37, 28, 42, 180, 0, 59, 27]
abbrev dktX1_leaps_0 : List UInt8 := dkwX1_leaps_0 ++ dktX1_leaps_1
theorem dksX1_leaps_0 : cX1_leaps.data.toList.drop 0 = dktX1_leaps_0 := by decide +kernel
theorem dksX1_leaps_1 : cX1_leaps.data.toList.drop 24 = dktX1_leaps_1 := dk_seg dksX1_leaps_0 24 rfl rfl
theorem dksX1_leaps_2 : cX1_leaps.data.toList.drop 46 = dktX1_leaps_2 := dk_seg dksX1_leaps_1 22 rfl rfl
theorem dX1_leaps_0 : decode cX1_leaps 0 = .ok (.iconst 0, 1) := dk_3 (dk_at dksX1_leaps_0 0 rfl rfl)
theorem dX1_leaps_1 : decode cX1_leaps 1 = .ok (.istore_n 2, 1) := dk_61 (dk_at dksX1_leaps_0 1 rfl rfl)
theorem dX1_leaps_2 : decode cX1_leaps 2 = .ok (.iconst 0, 1) := dk_3 (dk_at dksX1_leaps_0 2 rfl rfl)
theorem dX1_leaps_3 : decode cX1_leaps 3 = .ok (.istore_n 3, 1) := dk_62 (dk_at dksX1_leaps_0 3 rfl rfl)
theorem dX1_leaps_4 : decode cX1_leaps 4 = .ok (.iload_n 3, 1) := dk_29 (dk_at dksX1_leaps_0 4 rfl rfl)
theorem dX1_leaps_5 : decode cX1_leaps 5 = .ok (.iconst 4, 1) := dk_7 (dk_at dksX1_leaps_0 5 rfl rfl)
theorem dX1_leaps_6 : decode cX1_leaps 6 = .ok (.if_icmp .ge 52, 3) := dk_162 0 52 (dk_at dksX1_leaps_0 6 rfl rfl)
theorem dX1_leaps_9 : decode cX1_leaps 9 = .ok (.iconst 0, 1) := dk_3 (dk_at dksX1_leaps_0 9 rfl rfl)
theorem dX1_leaps_10 : decode cX1_leaps 10 = .ok (.istore 4, 2) := dk_54 4 (dk_at dksX1_leaps_0 10 rfl rfl)
theorem dX1_leaps_12 : decode cX1_leaps 12 = .ok (.iload 4, 2) := dk_21 4 (dk_at dksX1_leaps_0 12 rfl rfl)
theorem dX1_leaps_14 : decode cX1_leaps 14 = .ok (.iload_n 3, 1) := dk_29 (dk_at dksX1_leaps_0 14 rfl rfl)
theorem dX1_leaps_15 : decode cX1_leaps 15 = .ok (.if_icmp .ge 37, 3) := dk_162 0 37 (dk_at dksX1_leaps_0 15 rfl rfl)
theorem dX1_leaps_18 : decode cX1_leaps 18 = .ok (.iload_n 2, 1) := dk_28 (dk_at dksX1_leaps_0 18 rfl rfl)
theorem dX1_leaps_19 : decode cX1_leaps 19 = .ok (.aload_n 0, 1) := dk_42 (dk_at dksX1_leaps_0 19 rfl rfl)
theorem dX1_leaps_20 : decode cX1_leaps 20 = .ok (.getfield 59, 3) := dk_180 0 59 (dk_at dksX1_leaps_0 20 rfl rfl)
theorem dX1_leaps_23 : decode cX1_leaps 23 = .ok (.iload_n 1, 1) := dk_27 (dk_at dksX1_leaps_0 23 rfl rfl)
theorem dX1_leaps_24 : decode cX1_leaps 24 = .ok (.aaload, 1) := dk_50 (dk_at dksX1_leaps_1 0 rfl rfl)
theorem dX1_leaps_25 : decode cX1_leaps 25 = .ok (.iload 4, 2) := dk_21 4 (dk_at dksX1_leaps_1 1 rfl rfl)
theorem dX1_leaps_27 : decode cX1_leaps 27 = .ok (.iaload, 1) := dk_46 (dk_at dksX1_leaps_1 3 rfl rfl)
theorem dX1_leaps_28 : decode cX1_leaps 28 = .ok (.aload_n 0, 1) := dk_42 (dk_at dksX1_leaps_1 4 rfl rfl)
theorem dX1_leaps_29 : decode cX1_leaps 29 = .ok (.getfield 59, 3) := dk_180 0 59 (dk_at dksX1_leaps_1 5 rfl rfl)
theorem dX1_leaps_32 : decode cX1_leaps 32 = .ok (.iload_n 1, 1) := dk_27 (dk_at dksX1_leaps_1 8 rfl rfl)
theorem dX1_leaps_33 : decode cX1_leaps 33 = .ok (.aaload, 1) := dk_50 (dk_at dksX1_leaps_1 9 rfl rfl)
theorem dX1_leaps_34 : decode cX1_leaps 34 = .ok (.iload_n 3, 1) := dk_29 (dk_at dksX1_leaps_1 10 rfl rfl)
theorem dX1_leaps_35 : decode cX1_leaps 35 = .ok (.iaload, 1) := dk_46 (dk_at dksX1_leaps_1 11 rfl rfl)
theorem dX1_leaps_36 : decode cX1_leaps 36 = .ok (.if_icmp .le 7, 3) := dk_164 0 7 (dk_at dksX1_leaps_1 12 rfl rfl)
theorem dX1_leaps_39 : decode cX1_leaps 39 = .ok (.iconst 1, 1) := dk_4 (dk_at dksX1_leaps_1 15 rfl rfl)
theorem dX1_leaps_40 : decode cX1_leaps 40 = .ok (.goto 4, 3) := dk_167 0 4 (dk_at dksX1_leaps_1 16 rfl rfl)
theorem dX1_leaps_43 : decode cX1_leaps 43 = .ok (.iconst 0, 1) := dk_3 (dk_at dksX1_leaps_1 19 rfl rfl)
theorem dX1_leaps_44 : decode cX1_leaps 44 = .ok (.iadd, 1) := dk_96 (dk_at dksX1_leaps_1 20 rfl rfl)
theorem dX1_leaps_45 : decode cX1_leaps 45 = .ok (.istore_n 2, 1) := dk_61 (dk_at dksX1_leaps_1 21 rfl rfl)
theorem dX1_leaps_46 : decode cX1_leaps 46 = .ok (.iinc 4 1, 3) := dk_132 4 1 (dk_at dksX1_leaps_2 0 rfl rfl)
theorem dX1_leaps_49 : decode cX1_leaps 49 = .ok (.goto (-37), 3) := dk_167 255 219 (dk_at dksX1_leaps_2 3 rfl rfl)
theorem dX1_leaps_52 : decode cX1_leaps 52 = .ok (.iinc 3 1, 3) := dk_132 3 1 (dk_at dksX1_leaps_2 6 rfl rfl)
theorem dX1_leaps_55 : decode cX1_leaps 55 = .ok (.goto (-51), 3) := dk_167 255 205 (dk_at dksX1_leaps_2 9 rfl rfl)
theorem dX1_leaps_58 : decode cX1_leaps 58 = .ok (.iload_n 2, 1) := dk_28 (dk_at dksX1_leaps_2 12 rfl rfl)
theorem dX1_leaps_59 : decode cX1_leaps 59 = .ok (.ireturn, 1) := dk_172 (dk_at dksX1_leaps_2 13 rfl rfl)
def dkwX1_lambda_new_5_0 : List UInt8 := [42, 27, 133, 27, 133, 182, 0, 13, 177]
abbrev dktX1_lambda_new_5_0 : List UInt8 := dkwX1_lambda_new_5_0 ++ []
theorem dksX1_lambda_new_5_0 : cX1_lambda_new_5.data.toList.drop 0 = dktX1_lambda_new_5_0 := by decide +kernel
theorem dX1_lambda_new_5_0 : decode cX1_lambda_new_5 0 = .ok (.aload_n 0, 1) := dk_42 (dk_at dksX1_lambda_new_5_0 0 rfl rfl)
theorem dX1_lambda_new_5_1 : decode cX1_lambda_new_5 1 = .ok (.iload_n 1, 1) := dk_27 (dk_at dksX1_lambda_new_5_0 1 rfl rfl)
theorem dX1_lambda_new_5_2 : decode cX1_lambda_new_5 2 = .ok (.i2l, 1) := dk_133 (dk_at dksX1_lambda_new_5_0 2 rfl rfl)
theorem dX1_lambda_new_5_3 : decode cX1_lambda_new_5 3 = .ok (.iload_n 1, 1) := dk_27 (dk_at dksX1_lambda_new_5_0 3 rfl rfl)
theorem dX1_lambda_new_5_4 : decode cX1_lambda_new_5 4 = .ok (.i2l, 1) := dk_133 (dk_at dksX1_lambda_new_5_0 4 rfl rfl)
theorem dX1_lambda_new_5_5 : decode cX1_lambda_new_5 5 = .ok (.invokevirtual 13, 3) := dk_182 0 13 (dk_at dksX1_lambda_new_5_0 5 rfl rfl)
theorem dX1_lambda_new_5_8 : decode cX1_lambda_new_5 8 = .ok (.return_, 1) := dk_177 (dk_at dksX1_lambda_new_5_0 8 rfl rfl)
def dkwX1_ofTable_0 : List UInt8 := [43, 28, 42, 180, 0, 19, 112, 133, 9, 182, 0, 13, 177]
abbrev dktX1_ofTable_0 : List UInt8 := dkwX1_ofTable_0 ++ []
theorem dksX1_ofTable_0 : cX1_ofTable.data.toList.drop 0 = dktX1_ofTable_0 := by decide +kernel
theorem dX1_ofTable_0 : decode cX1_ofTable 0 = .ok (.aload_n 1, 1) := dk_43 (dk_at dksX1_ofTable_0 0 rfl rfl)
theorem dX1_ofTable_1 : decode cX1_ofTable 1 = .ok (.iload_n 2, 1) := dk_28 (dk_at dksX1_ofTable_0 1 rfl rfl)
theorem dX1_ofTable_2 : decode cX1_ofTable 2 = .ok (.aload_n 0, 1) := dk_42 (dk_at dksX1_ofTable_0 2 rfl rfl)
theorem dX1_ofTable_3 : decode cX1_ofTable 3 = .ok (.getfield 19, 3) := dk_180 0 19 (dk_at dksX1_ofTable_0 3 rfl rfl)
theorem dX1_ofTable_6 : decode cX1_ofTable 6 = .ok (.irem, 1) := dk_112 (dk_at dksX1_ofTable_0 6 rfl rfl)
theorem dX1_ofTable_7 : decode cX1_ofTable 7 = .ok (.i2l, 1) := dk_133 (dk_at dksX1_ofTable_0 7 rfl rfl)
theorem dX1_ofTable_8 : decode cX1_ofTable 8 = .ok (.lconst 0, 1) := dk_9 (dk_at dksX1_ofTable_0 8 rfl rfl)
theorem dX1_ofTable_9 : decode cX1_ofTable 9 = .ok (.invokevirtual 13, 3) := dk_182 0 13 (dk_at dksX1_ofTable_0 9 rfl rfl)
theorem dX1_ofTable_12 : decode cX1_ofTable 12 = .ok (.return_, 1) := dk_177 (dk_at dksX1_ofTable_0 12 rfl rfl)
def dkwX1_lambda_new_6_0 : List UInt8 := [42, 43, 180, 0, 23, 44, 180, 0, 23, 97, 43, 180, 0, 29, 44, 180, 0, 29, 97, 182, 0, 13, 177]
abbrev dktX1_lambda_new_6_0 : List UInt8 := dkwX1_lambda_new_6_0 ++ []
theorem dksX1_lambda_new_6_0 : cX1_lambda_new_6.data.toList.drop 0 = dktX1_lambda_new_6_0 := by decide +kernel
theorem dX1_lambda_new_6_0 : decode cX1_lambda_new_6 0 = .ok (.aload_n 0, 1) := dk_42 (dk_at dksX1_lambda_new_6_0 0 rfl rfl)
theorem dX1_lambda_new_6_1 : decode cX1_lambda_new_6 1 = .ok (.aload_n 1, 1) := dk_43 (dk_at dksX1_lambda_new_6_0 1 rfl rfl)
theorem dX1_lambda_new_6_2 : decode cX1_lambda_new_6 2 = .ok (.getfield 23, 3) := dk_180 0 23 (dk_at dksX1_lambda_new_6_0 2 rfl rfl)
theorem dX1_lambda_new_6_5 : decode cX1_lambda_new_6 5 = .ok (.aload_n 2, 1) := dk_44 (dk_at dksX1_lambda_new_6_0 5 rfl rfl)
theorem dX1_lambda_new_6_6 : decode cX1_lambda_new_6 6 = .ok (.getfield 23, 3) := dk_180 0 23 (dk_at dksX1_lambda_new_6_0 6 rfl rfl)
theorem dX1_lambda_new_6_9 : decode cX1_lambda_new_6 9 = .ok (.ladd, 1) := dk_97 (dk_at dksX1_lambda_new_6_0 9 rfl rfl)
theorem dX1_lambda_new_6_10 : decode cX1_lambda_new_6 10 = .ok (.aload_n 1, 1) := dk_43 (dk_at dksX1_lambda_new_6_0 10 rfl rfl)
theorem dX1_lambda_new_6_11 : decode cX1_lambda_new_6 11 = .ok (.getfield 29, 3) := dk_180 0 29 (dk_at dksX1_lambda_new_6_0 11 rfl rfl)
theorem dX1_lambda_new_6_14 : decode cX1_lambda_new_6 14 = .ok (.aload_n 2, 1) := dk_44 (dk_at dksX1_lambda_new_6_0 14 rfl rfl)
theorem dX1_lambda_new_6_15 : decode cX1_lambda_new_6 15 = .ok (.getfield 29, 3) := dk_180 0 29 (dk_at dksX1_lambda_new_6_0 15 rfl rfl)
theorem dX1_lambda_new_6_18 : decode cX1_lambda_new_6 18 = .ok (.ladd, 1) := dk_97 (dk_at dksX1_lambda_new_6_0 18 rfl rfl)
theorem dX1_lambda_new_6_19 : decode cX1_lambda_new_6 19 = .ok (.invokevirtual 13, 3) := dk_182 0 13 (dk_at dksX1_lambda_new_6_0 19 rfl rfl)
theorem dX1_lambda_new_6_22 : decode cX1_lambda_new_6 22 = .ok (.return_, 1) := dk_177 (dk_at dksX1_lambda_new_6_0 22 rfl rfl)
def dkwX1_lambda_new_7_1 : List UInt8 := [182, 0, 13, 177]
abbrev dktX1_lambda_new_7_1 : List UInt8 := dkwX1_lambda_new_7_1 ++ []
def dkwX1_lambda_new_7_0 : List UInt8 := [42, 43, 180, 0, 23, 44, 180, 0, 23, 184, 0, 32, 43, 180, 0, 29, 44, 180, 0, 29, 184, 1, 185]
abbrev dktX1_lambda_new_7_0 : List UInt8 := dkwX1_lambda_new_7_0 ++ dktX1_lambda_new_7_1
theorem dksX1_lambda_new_7_0 : cX1_lambda_new_7.data.toList.drop 0 = dktX1_lambda_new_7_0 := by decide +kernel
theorem dksX1_lambda_new_7_1 : cX1_lambda_new_7.data.toList.drop 23 = dktX1_lambda_new_7_1 := dk_seg dksX1_lambda_new_7_0 23 rfl rfl
theorem dX1_lambda_new_7_0 : decode cX1_lambda_new_7 0 = .ok (.aload_n 0, 1) := dk_42 (dk_at dksX1_lambda_new_7_0 0 rfl rfl)
theorem dX1_lambda_new_7_1 : decode cX1_lambda_new_7 1 = .ok (.aload_n 1, 1) := dk_43 (dk_at dksX1_lambda_new_7_0 1 rfl rfl)
theorem dX1_lambda_new_7_2 : decode cX1_lambda_new_7 2 = .ok (.getfield 23, 3) := dk_180 0 23 (dk_at dksX1_lambda_new_7_0 2 rfl rfl)
theorem dX1_lambda_new_7_5 : decode cX1_lambda_new_7 5 = .ok (.aload_n 2, 1) := dk_44 (dk_at dksX1_lambda_new_7_0 5 rfl rfl)
theorem dX1_lambda_new_7_6 : decode cX1_lambda_new_7 6 = .ok (.getfield 23, 3) := dk_180 0 23 (dk_at dksX1_lambda_new_7_0 6 rfl rfl)
theorem dX1_lambda_new_7_9 : decode cX1_lambda_new_7 9 = .ok (.invokestatic 32, 3) := dk_184 0 32 (dk_at dksX1_lambda_new_7_0 9 rfl rfl)
theorem dX1_lambda_new_7_12 : decode cX1_lambda_new_7 12 = .ok (.aload_n 1, 1) := dk_43 (dk_at dksX1_lambda_new_7_0 12 rfl rfl)
theorem dX1_lambda_new_7_13 : decode cX1_lambda_new_7 13 = .ok (.getfield 29, 3) := dk_180 0 29 (dk_at dksX1_lambda_new_7_0 13 rfl rfl)
theorem dX1_lambda_new_7_16 : decode cX1_lambda_new_7 16 = .ok (.aload_n 2, 1) := dk_44 (dk_at dksX1_lambda_new_7_0 16 rfl rfl)
theorem dX1_lambda_new_7_17 : decode cX1_lambda_new_7 17 = .ok (.getfield 29, 3) := dk_180 0 29 (dk_at dksX1_lambda_new_7_0 17 rfl rfl)
theorem dX1_lambda_new_7_20 : decode cX1_lambda_new_7 20 = .ok (.invokestatic 441, 3) := dk_184 1 185 (dk_at dksX1_lambda_new_7_0 20 rfl rfl)
theorem dX1_lambda_new_7_23 : decode cX1_lambda_new_7 23 = .ok (.invokevirtual 13, 3) := dk_182 0 13 (dk_at dksX1_lambda_new_7_1 0 rfl rfl)
theorem dX1_lambda_new_7_26 : decode cX1_lambda_new_7 26 = .ok (.return_, 1) := dk_177 (dk_at dksX1_lambda_new_7_1 3 rfl rfl)
def dkwX1_lambda_new_8_1 : List UInt8 := [177]
abbrev dktX1_lambda_new_8_1 : List UInt8 := dkwX1_lambda_new_8_1 ++ []
def dkwX1_lambda_new_8_0 : List UInt8 := [42, 43, 180, 0, 23, 44, 180, 0, 23, 184, 0, 9, 43, 180, 0, 29, 44, 180, 0, 29, 131, 182, 0, 13]
abbrev dktX1_lambda_new_8_0 : List UInt8 := dkwX1_lambda_new_8_0 ++ dktX1_lambda_new_8_1
theorem dksX1_lambda_new_8_0 : cX1_lambda_new_8.data.toList.drop 0 = dktX1_lambda_new_8_0 := by decide +kernel
theorem dksX1_lambda_new_8_1 : cX1_lambda_new_8.data.toList.drop 24 = dktX1_lambda_new_8_1 := dk_seg dksX1_lambda_new_8_0 24 rfl rfl
theorem dX1_lambda_new_8_0 : decode cX1_lambda_new_8 0 = .ok (.aload_n 0, 1) := dk_42 (dk_at dksX1_lambda_new_8_0 0 rfl rfl)
theorem dX1_lambda_new_8_1 : decode cX1_lambda_new_8 1 = .ok (.aload_n 1, 1) := dk_43 (dk_at dksX1_lambda_new_8_0 1 rfl rfl)
theorem dX1_lambda_new_8_2 : decode cX1_lambda_new_8 2 = .ok (.getfield 23, 3) := dk_180 0 23 (dk_at dksX1_lambda_new_8_0 2 rfl rfl)
theorem dX1_lambda_new_8_5 : decode cX1_lambda_new_8 5 = .ok (.aload_n 2, 1) := dk_44 (dk_at dksX1_lambda_new_8_0 5 rfl rfl)
theorem dX1_lambda_new_8_6 : decode cX1_lambda_new_8 6 = .ok (.getfield 23, 3) := dk_180 0 23 (dk_at dksX1_lambda_new_8_0 6 rfl rfl)
theorem dX1_lambda_new_8_9 : decode cX1_lambda_new_8 9 = .ok (.invokestatic 9, 3) := dk_184 0 9 (dk_at dksX1_lambda_new_8_0 9 rfl rfl)
theorem dX1_lambda_new_8_12 : decode cX1_lambda_new_8 12 = .ok (.aload_n 1, 1) := dk_43 (dk_at dksX1_lambda_new_8_0 12 rfl rfl)
theorem dX1_lambda_new_8_13 : decode cX1_lambda_new_8 13 = .ok (.getfield 29, 3) := dk_180 0 29 (dk_at dksX1_lambda_new_8_0 13 rfl rfl)
theorem dX1_lambda_new_8_16 : decode cX1_lambda_new_8 16 = .ok (.aload_n 2, 1) := dk_44 (dk_at dksX1_lambda_new_8_0 16 rfl rfl)
theorem dX1_lambda_new_8_17 : decode cX1_lambda_new_8 17 = .ok (.getfield 29, 3) := dk_180 0 29 (dk_at dksX1_lambda_new_8_0 17 rfl rfl)
theorem dX1_lambda_new_8_20 : decode cX1_lambda_new_8 20 = .ok (.lxor, 1) := dk_131 (dk_at dksX1_lambda_new_8_0 20 rfl rfl)
theorem dX1_lambda_new_8_21 : decode cX1_lambda_new_8 21 = .ok (.invokevirtual 13, 3) := dk_182 0 13 (dk_at dksX1_lambda_new_8_0 21 rfl rfl)
theorem dX1_lambda_new_8_24 : decode cX1_lambda_new_8 24 = .ok (.return_, 1) := dk_177 (dk_at dksX1_lambda_new_8_1 0 rfl rfl)
def dkwX1_common_0 : List UInt8 := [32, 9, 148, 154, 0, 7, 30, 167, 0, 10, 32, 30, 32, 113, 184, 0, 9, 173]
abbrev dktX1_common_0 : List UInt8 := dkwX1_common_0 ++ []
theorem dksX1_common_0 : cX1_common.data.toList.drop 0 = dktX1_common_0 := by decide +kernel
theorem dX1_common_0 : decode cX1_common 0 = .ok (.lload_n 2, 1) := dk_32 (dk_at dksX1_common_0 0 rfl rfl)
theorem dX1_common_1 : decode cX1_common 1 = .ok (.lconst 0, 1) := dk_9 (dk_at dksX1_common_0 1 rfl rfl)
theorem dX1_common_2 : decode cX1_common 2 = .ok (.lcmp, 1) := dk_148 (dk_at dksX1_common_0 2 rfl rfl)
theorem dX1_common_3 : decode cX1_common 3 = .ok (.ifCond .ne 7, 3) := dk_154 0 7 (dk_at dksX1_common_0 3 rfl rfl)
theorem dX1_common_6 : decode cX1_common 6 = .ok (.lload_n 0, 1) := dk_30 (dk_at dksX1_common_0 6 rfl rfl)
theorem dX1_common_7 : decode cX1_common 7 = .ok (.goto 10, 3) := dk_167 0 10 (dk_at dksX1_common_0 7 rfl rfl)
theorem dX1_common_10 : decode cX1_common 10 = .ok (.lload_n 2, 1) := dk_32 (dk_at dksX1_common_0 10 rfl rfl)
theorem dX1_common_11 : decode cX1_common 11 = .ok (.lload_n 0, 1) := dk_30 (dk_at dksX1_common_0 11 rfl rfl)
theorem dX1_common_12 : decode cX1_common 12 = .ok (.lload_n 2, 1) := dk_32 (dk_at dksX1_common_0 12 rfl rfl)
theorem dX1_common_13 : decode cX1_common 13 = .ok (.lrem, 1) := dk_113 (dk_at dksX1_common_0 13 rfl rfl)
theorem dX1_common_14 : decode cX1_common 14 = .ok (.invokestatic 9, 3) := dk_184 0 9 (dk_at dksX1_common_0 14 rfl rfl)
theorem dX1_common_17 : decode cX1_common 17 = .ok (.lreturn, 1) := dk_173 (dk_at dksX1_common_0 17 rfl rfl)
def dkwX1_maps_1 : List UInt8 := [180, 0, 29, 97, 20, 0, 27, 113, 182, 0, 13, 177]
abbrev dktX1_maps_1 : List UInt8 := dkwX1_maps_1 ++ []
def dkwX1_maps_0 : List UInt8 := [43, 44, 180, 0, 23, 45, 180, 0, 23, 105, 20, 0, 27, 113, 45, 180, 0, 23, 44, 180, 0, 29, 105, 45]
abbrev dktX1_maps_0 : List UInt8 := dkwX1_maps_0 ++ dktX1_maps_1
theorem dksX1_maps_0 : cX1_maps.data.toList.drop 0 = dktX1_maps_0 := by decide +kernel
theorem dksX1_maps_1 : cX1_maps.data.toList.drop 24 = dktX1_maps_1 := dk_seg dksX1_maps_0 24 rfl rfl
theorem dX1_maps_0 : decode cX1_maps 0 = .ok (.aload_n 1, 1) := dk_43 (dk_at dksX1_maps_0 0 rfl rfl)
theorem dX1_maps_1 : decode cX1_maps 1 = .ok (.aload_n 2, 1) := dk_44 (dk_at dksX1_maps_0 1 rfl rfl)
theorem dX1_maps_2 : decode cX1_maps 2 = .ok (.getfield 23, 3) := dk_180 0 23 (dk_at dksX1_maps_0 2 rfl rfl)
theorem dX1_maps_5 : decode cX1_maps 5 = .ok (.aload_n 3, 1) := dk_45 (dk_at dksX1_maps_0 5 rfl rfl)
theorem dX1_maps_6 : decode cX1_maps 6 = .ok (.getfield 23, 3) := dk_180 0 23 (dk_at dksX1_maps_0 6 rfl rfl)
theorem dX1_maps_9 : decode cX1_maps 9 = .ok (.lmul, 1) := dk_105 (dk_at dksX1_maps_0 9 rfl rfl)
theorem dX1_maps_10 : decode cX1_maps 10 = .ok (.ldc2_w 27, 3) := dk_20 0 27 (dk_at dksX1_maps_0 10 rfl rfl)
theorem dX1_maps_13 : decode cX1_maps 13 = .ok (.lrem, 1) := dk_113 (dk_at dksX1_maps_0 13 rfl rfl)
theorem dX1_maps_14 : decode cX1_maps 14 = .ok (.aload_n 3, 1) := dk_45 (dk_at dksX1_maps_0 14 rfl rfl)
theorem dX1_maps_15 : decode cX1_maps 15 = .ok (.getfield 23, 3) := dk_180 0 23 (dk_at dksX1_maps_0 15 rfl rfl)
theorem dX1_maps_18 : decode cX1_maps 18 = .ok (.aload_n 2, 1) := dk_44 (dk_at dksX1_maps_0 18 rfl rfl)
theorem dX1_maps_19 : decode cX1_maps 19 = .ok (.getfield 29, 3) := dk_180 0 29 (dk_at dksX1_maps_0 19 rfl rfl)
theorem dX1_maps_22 : decode cX1_maps 22 = .ok (.lmul, 1) := dk_105 (dk_at dksX1_maps_0 22 rfl rfl)
theorem dX1_maps_23 : decode cX1_maps 23 = .ok (.aload_n 3, 1) := dk_45 (dk_at dksX1_maps_0 23 rfl rfl)
theorem dX1_maps_24 : decode cX1_maps 24 = .ok (.getfield 29, 3) := dk_180 0 29 (dk_at dksX1_maps_1 0 rfl rfl)
theorem dX1_maps_27 : decode cX1_maps 27 = .ok (.ladd, 1) := dk_97 (dk_at dksX1_maps_1 3 rfl rfl)
theorem dX1_maps_28 : decode cX1_maps 28 = .ok (.ldc2_w 27, 3) := dk_20 0 27 (dk_at dksX1_maps_1 4 rfl rfl)
theorem dX1_maps_31 : decode cX1_maps 31 = .ok (.lrem, 1) := dk_113 (dk_at dksX1_maps_1 7 rfl rfl)
theorem dX1_maps_32 : decode cX1_maps 32 = .ok (.invokevirtual 13, 3) := dk_182 0 13 (dk_at dksX1_maps_1 8 rfl rfl)
theorem dX1_maps_35 : decode cX1_maps 35 = .ok (.return_, 1) := dk_177 (dk_at dksX1_maps_1 11 rfl rfl)
def dkwX1_brackets_1 : List UInt8 := [22, 4, 101, 44, 180, 0, 29, 45, 180, 0, 29, 97, 22, 4, 101, 182, 0, 13, 177]
abbrev dktX1_brackets_1 : List UInt8 := dkwX1_brackets_1 ++ []
def dkwX1_brackets_0 : List UInt8 := [44, 180, 0, 29, 45, 180, 0, 23, 184, 0, 32, 55, 4, 43, 44, 180, 0, 23, 45, 180, 0, 23, 97]
abbrev dktX1_brackets_0 : List UInt8 := dkwX1_brackets_0 ++ dktX1_brackets_1
theorem dksX1_brackets_0 : cX1_brackets.data.toList.drop 0 = dktX1_brackets_0 := by decide +kernel
theorem dksX1_brackets_1 : cX1_brackets.data.toList.drop 23 = dktX1_brackets_1 := dk_seg dksX1_brackets_0 23 rfl rfl
theorem dX1_brackets_0 : decode cX1_brackets 0 = .ok (.aload_n 2, 1) := dk_44 (dk_at dksX1_brackets_0 0 rfl rfl)
theorem dX1_brackets_1 : decode cX1_brackets 1 = .ok (.getfield 29, 3) := dk_180 0 29 (dk_at dksX1_brackets_0 1 rfl rfl)
theorem dX1_brackets_4 : decode cX1_brackets 4 = .ok (.aload_n 3, 1) := dk_45 (dk_at dksX1_brackets_0 4 rfl rfl)
theorem dX1_brackets_5 : decode cX1_brackets 5 = .ok (.getfield 23, 3) := dk_180 0 23 (dk_at dksX1_brackets_0 5 rfl rfl)
theorem dX1_brackets_8 : decode cX1_brackets 8 = .ok (.invokestatic 32, 3) := dk_184 0 32 (dk_at dksX1_brackets_0 8 rfl rfl)
theorem dX1_brackets_11 : decode cX1_brackets 11 = .ok (.lstore 4, 2) := dk_55 4 (dk_at dksX1_brackets_0 11 rfl rfl)
theorem dX1_brackets_13 : decode cX1_brackets 13 = .ok (.aload_n 1, 1) := dk_43 (dk_at dksX1_brackets_0 13 rfl rfl)
theorem dX1_brackets_14 : decode cX1_brackets 14 = .ok (.aload_n 2, 1) := dk_44 (dk_at dksX1_brackets_0 14 rfl rfl)
theorem dX1_brackets_15 : decode cX1_brackets 15 = .ok (.getfield 23, 3) := dk_180 0 23 (dk_at dksX1_brackets_0 15 rfl rfl)
theorem dX1_brackets_18 : decode cX1_brackets 18 = .ok (.aload_n 3, 1) := dk_45 (dk_at dksX1_brackets_0 18 rfl rfl)
theorem dX1_brackets_19 : decode cX1_brackets 19 = .ok (.getfield 23, 3) := dk_180 0 23 (dk_at dksX1_brackets_0 19 rfl rfl)
theorem dX1_brackets_22 : decode cX1_brackets 22 = .ok (.ladd, 1) := dk_97 (dk_at dksX1_brackets_0 22 rfl rfl)
theorem dX1_brackets_23 : decode cX1_brackets 23 = .ok (.lload 4, 2) := dk_22 4 (dk_at dksX1_brackets_1 0 rfl rfl)
theorem dX1_brackets_25 : decode cX1_brackets 25 = .ok (.lsub, 1) := dk_101 (dk_at dksX1_brackets_1 2 rfl rfl)
theorem dX1_brackets_26 : decode cX1_brackets 26 = .ok (.aload_n 2, 1) := dk_44 (dk_at dksX1_brackets_1 3 rfl rfl)
theorem dX1_brackets_27 : decode cX1_brackets 27 = .ok (.getfield 29, 3) := dk_180 0 29 (dk_at dksX1_brackets_1 4 rfl rfl)
theorem dX1_brackets_30 : decode cX1_brackets 30 = .ok (.aload_n 3, 1) := dk_45 (dk_at dksX1_brackets_1 7 rfl rfl)
theorem dX1_brackets_31 : decode cX1_brackets 31 = .ok (.getfield 29, 3) := dk_180 0 29 (dk_at dksX1_brackets_1 8 rfl rfl)
theorem dX1_brackets_34 : decode cX1_brackets 34 = .ok (.ladd, 1) := dk_97 (dk_at dksX1_brackets_1 11 rfl rfl)
theorem dX1_brackets_35 : decode cX1_brackets 35 = .ok (.lload 4, 2) := dk_22 4 (dk_at dksX1_brackets_1 12 rfl rfl)
theorem dX1_brackets_37 : decode cX1_brackets 37 = .ok (.lsub, 1) := dk_101 (dk_at dksX1_brackets_1 14 rfl rfl)
theorem dX1_brackets_38 : decode cX1_brackets 38 = .ok (.invokevirtual 13, 3) := dk_182 0 13 (dk_at dksX1_brackets_1 15 rfl rfl)
theorem dX1_brackets_41 : decode cX1_brackets 41 = .ok (.return_, 1) := dk_177 (dk_at dksX1_brackets_1 18 rfl rfl)
def dkwX1_arranged_3 : List UInt8 := [177]
abbrev dktX1_arranged_3 : List UInt8 := dkwX1_arranged_3 ++ []
def dkwX1_arranged_2 : List UInt8 := [42, 180, 0, 79, 182, 0, 82, 133, 44, 180, 0, 29, 45, 180, 0, 29, 97, 20, 0, 86, 113, 182, 0, 13]
abbrev dktX1_arranged_2 : List UInt8 := dkwX1_arranged_2 ++ dktX1_arranged_3
def dkwX1_arranged_1 : List UInt8 := [50, 42, 180, 0, 59, 44, 180, 0, 23, 136, 50, 21, 4, 46, 46, 79, 132, 4, 1, 167, 255, 216, 43, 42]
abbrev dktX1_arranged_1 : List UInt8 := dkwX1_arranged_1 ++ dktX1_arranged_2
def dkwX1_arranged_0 : List UInt8 := [3, 54, 4, 21, 4, 7, 162, 0, 40, 42, 180, 0, 79, 21, 4, 42, 180, 0, 59, 45, 180, 0, 23, 136]
abbrev dktX1_arranged_0 : List UInt8 := dkwX1_arranged_0 ++ dktX1_arranged_1
theorem dksX1_arranged_0 : cX1_arranged.data.toList.drop 0 = dktX1_arranged_0 := by decide +kernel
theorem dksX1_arranged_1 : cX1_arranged.data.toList.drop 24 = dktX1_arranged_1 := dk_seg dksX1_arranged_0 24 rfl rfl
theorem dksX1_arranged_2 : cX1_arranged.data.toList.drop 48 = dktX1_arranged_2 := dk_seg dksX1_arranged_1 24 rfl rfl
theorem dksX1_arranged_3 : cX1_arranged.data.toList.drop 72 = dktX1_arranged_3 := dk_seg dksX1_arranged_2 24 rfl rfl
theorem dX1_arranged_0 : decode cX1_arranged 0 = .ok (.iconst 0, 1) := dk_3 (dk_at dksX1_arranged_0 0 rfl rfl)
theorem dX1_arranged_1 : decode cX1_arranged 1 = .ok (.istore 4, 2) := dk_54 4 (dk_at dksX1_arranged_0 1 rfl rfl)
theorem dX1_arranged_3 : decode cX1_arranged 3 = .ok (.iload 4, 2) := dk_21 4 (dk_at dksX1_arranged_0 3 rfl rfl)
theorem dX1_arranged_5 : decode cX1_arranged 5 = .ok (.iconst 4, 1) := dk_7 (dk_at dksX1_arranged_0 5 rfl rfl)
theorem dX1_arranged_6 : decode cX1_arranged 6 = .ok (.if_icmp .ge 40, 3) := dk_162 0 40 (dk_at dksX1_arranged_0 6 rfl rfl)
theorem dX1_arranged_9 : decode cX1_arranged 9 = .ok (.aload_n 0, 1) := dk_42 (dk_at dksX1_arranged_0 9 rfl rfl)
theorem dX1_arranged_10 : decode cX1_arranged 10 = .ok (.getfield 79, 3) := dk_180 0 79 (dk_at dksX1_arranged_0 10 rfl rfl)
theorem dX1_arranged_13 : decode cX1_arranged 13 = .ok (.iload 4, 2) := dk_21 4 (dk_at dksX1_arranged_0 13 rfl rfl)
theorem dX1_arranged_15 : decode cX1_arranged 15 = .ok (.aload_n 0, 1) := dk_42 (dk_at dksX1_arranged_0 15 rfl rfl)
theorem dX1_arranged_16 : decode cX1_arranged 16 = .ok (.getfield 59, 3) := dk_180 0 59 (dk_at dksX1_arranged_0 16 rfl rfl)
theorem dX1_arranged_19 : decode cX1_arranged 19 = .ok (.aload_n 3, 1) := dk_45 (dk_at dksX1_arranged_0 19 rfl rfl)
theorem dX1_arranged_20 : decode cX1_arranged 20 = .ok (.getfield 23, 3) := dk_180 0 23 (dk_at dksX1_arranged_0 20 rfl rfl)
theorem dX1_arranged_23 : decode cX1_arranged 23 = .ok (.l2i, 1) := dk_136 (dk_at dksX1_arranged_0 23 rfl rfl)
theorem dX1_arranged_24 : decode cX1_arranged 24 = .ok (.aaload, 1) := dk_50 (dk_at dksX1_arranged_1 0 rfl rfl)
theorem dX1_arranged_25 : decode cX1_arranged 25 = .ok (.aload_n 0, 1) := dk_42 (dk_at dksX1_arranged_1 1 rfl rfl)
theorem dX1_arranged_26 : decode cX1_arranged 26 = .ok (.getfield 59, 3) := dk_180 0 59 (dk_at dksX1_arranged_1 2 rfl rfl)
theorem dX1_arranged_29 : decode cX1_arranged 29 = .ok (.aload_n 2, 1) := dk_44 (dk_at dksX1_arranged_1 5 rfl rfl)
theorem dX1_arranged_30 : decode cX1_arranged 30 = .ok (.getfield 23, 3) := dk_180 0 23 (dk_at dksX1_arranged_1 6 rfl rfl)
theorem dX1_arranged_33 : decode cX1_arranged 33 = .ok (.l2i, 1) := dk_136 (dk_at dksX1_arranged_1 9 rfl rfl)
theorem dX1_arranged_34 : decode cX1_arranged 34 = .ok (.aaload, 1) := dk_50 (dk_at dksX1_arranged_1 10 rfl rfl)
theorem dX1_arranged_35 : decode cX1_arranged 35 = .ok (.iload 4, 2) := dk_21 4 (dk_at dksX1_arranged_1 11 rfl rfl)
theorem dX1_arranged_37 : decode cX1_arranged 37 = .ok (.iaload, 1) := dk_46 (dk_at dksX1_arranged_1 13 rfl rfl)
theorem dX1_arranged_38 : decode cX1_arranged 38 = .ok (.iaload, 1) := dk_46 (dk_at dksX1_arranged_1 14 rfl rfl)
theorem dX1_arranged_39 : decode cX1_arranged 39 = .ok (.iastore, 1) := dk_79 (dk_at dksX1_arranged_1 15 rfl rfl)
theorem dX1_arranged_40 : decode cX1_arranged 40 = .ok (.iinc 4 1, 3) := dk_132 4 1 (dk_at dksX1_arranged_1 16 rfl rfl)
theorem dX1_arranged_43 : decode cX1_arranged 43 = .ok (.goto (-40), 3) := dk_167 255 216 (dk_at dksX1_arranged_1 19 rfl rfl)
theorem dX1_arranged_46 : decode cX1_arranged 46 = .ok (.aload_n 1, 1) := dk_43 (dk_at dksX1_arranged_1 22 rfl rfl)
theorem dX1_arranged_47 : decode cX1_arranged 47 = .ok (.aload_n 0, 1) := dk_42 (dk_at dksX1_arranged_1 23 rfl rfl)
theorem dX1_arranged_48 : decode cX1_arranged 48 = .ok (.aload_n 0, 1) := dk_42 (dk_at dksX1_arranged_2 0 rfl rfl)
theorem dX1_arranged_49 : decode cX1_arranged 49 = .ok (.getfield 79, 3) := dk_180 0 79 (dk_at dksX1_arranged_2 1 rfl rfl)
theorem dX1_arranged_52 : decode cX1_arranged 52 = .ok (.invokevirtual 82, 3) := dk_182 0 82 (dk_at dksX1_arranged_2 4 rfl rfl)
theorem dX1_arranged_55 : decode cX1_arranged 55 = .ok (.i2l, 1) := dk_133 (dk_at dksX1_arranged_2 7 rfl rfl)
theorem dX1_arranged_56 : decode cX1_arranged 56 = .ok (.aload_n 2, 1) := dk_44 (dk_at dksX1_arranged_2 8 rfl rfl)
theorem dX1_arranged_57 : decode cX1_arranged 57 = .ok (.getfield 29, 3) := dk_180 0 29 (dk_at dksX1_arranged_2 9 rfl rfl)
theorem dX1_arranged_60 : decode cX1_arranged 60 = .ok (.aload_n 3, 1) := dk_45 (dk_at dksX1_arranged_2 12 rfl rfl)
theorem dX1_arranged_61 : decode cX1_arranged 61 = .ok (.getfield 29, 3) := dk_180 0 29 (dk_at dksX1_arranged_2 13 rfl rfl)
theorem dX1_arranged_64 : decode cX1_arranged 64 = .ok (.ladd, 1) := dk_97 (dk_at dksX1_arranged_2 16 rfl rfl)
theorem dX1_arranged_65 : decode cX1_arranged 65 = .ok (.ldc2_w 86, 3) := dk_20 0 86 (dk_at dksX1_arranged_2 17 rfl rfl)
theorem dX1_arranged_68 : decode cX1_arranged 68 = .ok (.lrem, 1) := dk_113 (dk_at dksX1_arranged_2 20 rfl rfl)
theorem dX1_arranged_69 : decode cX1_arranged 69 = .ok (.invokevirtual 13, 3) := dk_182 0 13 (dk_at dksX1_arranged_2 21 rfl rfl)
theorem dX1_arranged_72 : decode cX1_arranged 72 = .ok (.return_, 1) := dk_177 (dk_at dksX1_arranged_3 0 rfl rfl)
def dkwX1_numberOf_1 : List UInt8 := [184, 0, 75, 153, 0, 5, 28, 172, 132, 2, 1, 167, 255, 225, 2, 172]
abbrev dktX1_numberOf_1 : List UInt8 := dkwX1_numberOf_1 ++ []
def dkwX1_numberOf_0 : List UInt8 := [3, 61, 28, 16, 24, 162, 0, 31, 43, 190, 7, 160, 0, 19, 42, 180, 0, 59, 28, 50, 43, 7]
abbrev dktX1_numberOf_0 : List UInt8 := dkwX1_numberOf_0 ++ dktX1_numberOf_1
theorem dksX1_numberOf_0 : cX1_numberOf.data.toList.drop 0 = dktX1_numberOf_0 := by decide +kernel
theorem dksX1_numberOf_1 : cX1_numberOf.data.toList.drop 22 = dktX1_numberOf_1 := dk_seg dksX1_numberOf_0 22 rfl rfl
theorem dX1_numberOf_0 : decode cX1_numberOf 0 = .ok (.iconst 0, 1) := dk_3 (dk_at dksX1_numberOf_0 0 rfl rfl)
theorem dX1_numberOf_1 : decode cX1_numberOf 1 = .ok (.istore_n 2, 1) := dk_61 (dk_at dksX1_numberOf_0 1 rfl rfl)
theorem dX1_numberOf_2 : decode cX1_numberOf 2 = .ok (.iload_n 2, 1) := dk_28 (dk_at dksX1_numberOf_0 2 rfl rfl)
theorem dX1_numberOf_3 : decode cX1_numberOf 3 = .ok (.bipush 24, 2) := dk_16 24 (dk_at dksX1_numberOf_0 3 rfl rfl)
theorem dX1_numberOf_5 : decode cX1_numberOf 5 = .ok (.if_icmp .ge 31, 3) := dk_162 0 31 (dk_at dksX1_numberOf_0 5 rfl rfl)
theorem dX1_numberOf_8 : decode cX1_numberOf 8 = .ok (.aload_n 1, 1) := dk_43 (dk_at dksX1_numberOf_0 8 rfl rfl)
theorem dX1_numberOf_9 : decode cX1_numberOf 9 = .ok (.arraylength, 1) := dk_190 (dk_at dksX1_numberOf_0 9 rfl rfl)
theorem dX1_numberOf_10 : decode cX1_numberOf 10 = .ok (.iconst 4, 1) := dk_7 (dk_at dksX1_numberOf_0 10 rfl rfl)
theorem dX1_numberOf_11 : decode cX1_numberOf 11 = .ok (.if_icmp .ne 19, 3) := dk_160 0 19 (dk_at dksX1_numberOf_0 11 rfl rfl)
theorem dX1_numberOf_14 : decode cX1_numberOf 14 = .ok (.aload_n 0, 1) := dk_42 (dk_at dksX1_numberOf_0 14 rfl rfl)
theorem dX1_numberOf_15 : decode cX1_numberOf 15 = .ok (.getfield 59, 3) := dk_180 0 59 (dk_at dksX1_numberOf_0 15 rfl rfl)
theorem dX1_numberOf_18 : decode cX1_numberOf 18 = .ok (.iload_n 2, 1) := dk_28 (dk_at dksX1_numberOf_0 18 rfl rfl)
theorem dX1_numberOf_19 : decode cX1_numberOf 19 = .ok (.aaload, 1) := dk_50 (dk_at dksX1_numberOf_0 19 rfl rfl)
theorem dX1_numberOf_20 : decode cX1_numberOf 20 = .ok (.aload_n 1, 1) := dk_43 (dk_at dksX1_numberOf_0 20 rfl rfl)
theorem dX1_numberOf_21 : decode cX1_numberOf 21 = .ok (.iconst 4, 1) := dk_7 (dk_at dksX1_numberOf_0 21 rfl rfl)
theorem dX1_numberOf_22 : decode cX1_numberOf 22 = .ok (.invokestatic 75, 3) := dk_184 0 75 (dk_at dksX1_numberOf_1 0 rfl rfl)
theorem dX1_numberOf_25 : decode cX1_numberOf 25 = .ok (.ifCond .eq 5, 3) := dk_153 0 5 (dk_at dksX1_numberOf_1 3 rfl rfl)
theorem dX1_numberOf_28 : decode cX1_numberOf 28 = .ok (.iload_n 2, 1) := dk_28 (dk_at dksX1_numberOf_1 6 rfl rfl)
theorem dX1_numberOf_29 : decode cX1_numberOf 29 = .ok (.ireturn, 1) := dk_172 (dk_at dksX1_numberOf_1 7 rfl rfl)
theorem dX1_numberOf_30 : decode cX1_numberOf 30 = .ok (.iinc 2 1, 3) := dk_132 2 1 (dk_at dksX1_numberOf_1 8 rfl rfl)
theorem dX1_numberOf_33 : decode cX1_numberOf 33 = .ok (.goto (-31), 3) := dk_167 255 225 (dk_at dksX1_numberOf_1 11 rfl rfl)
theorem dX1_numberOf_36 : decode cX1_numberOf 36 = .ok (.iconst (-1), 1) := dk_2 (dk_at dksX1_numberOf_1 14 rfl rfl)
theorem dX1_numberOf_37 : decode cX1_numberOf 37 = .ok (.ireturn, 1) := dk_172 (dk_at dksX1_numberOf_1 15 rfl rfl)
def dkwX1_areLikeRows_1 : List UInt8 := [4, 172]
abbrev dktX1_areLikeRows_1 : List UInt8 := dkwX1_areLikeRows_1 ++ []
def dkwX1_areLikeRows_0 : List UInt8 := [3, 62, 29, 28, 162, 0, 20, 42, 29, 46, 43, 29, 46, 159, 0, 5, 3, 172, 132, 3, 1, 167, 255, 237]
abbrev dktX1_areLikeRows_0 : List UInt8 := dkwX1_areLikeRows_0 ++ dktX1_areLikeRows_1
theorem dksX1_areLikeRows_0 : cX1_areLikeRows.data.toList.drop 0 = dktX1_areLikeRows_0 := by decide +kernel
theorem dksX1_areLikeRows_1 : cX1_areLikeRows.data.toList.drop 24 = dktX1_areLikeRows_1 := dk_seg dksX1_areLikeRows_0 24 rfl rfl
theorem dX1_areLikeRows_0 : decode cX1_areLikeRows 0 = .ok (.iconst 0, 1) := dk_3 (dk_at dksX1_areLikeRows_0 0 rfl rfl)
theorem dX1_areLikeRows_1 : decode cX1_areLikeRows 1 = .ok (.istore_n 3, 1) := dk_62 (dk_at dksX1_areLikeRows_0 1 rfl rfl)
theorem dX1_areLikeRows_2 : decode cX1_areLikeRows 2 = .ok (.iload_n 3, 1) := dk_29 (dk_at dksX1_areLikeRows_0 2 rfl rfl)
theorem dX1_areLikeRows_3 : decode cX1_areLikeRows 3 = .ok (.iload_n 2, 1) := dk_28 (dk_at dksX1_areLikeRows_0 3 rfl rfl)
theorem dX1_areLikeRows_4 : decode cX1_areLikeRows 4 = .ok (.if_icmp .ge 20, 3) := dk_162 0 20 (dk_at dksX1_areLikeRows_0 4 rfl rfl)
theorem dX1_areLikeRows_7 : decode cX1_areLikeRows 7 = .ok (.aload_n 0, 1) := dk_42 (dk_at dksX1_areLikeRows_0 7 rfl rfl)
theorem dX1_areLikeRows_8 : decode cX1_areLikeRows 8 = .ok (.iload_n 3, 1) := dk_29 (dk_at dksX1_areLikeRows_0 8 rfl rfl)
theorem dX1_areLikeRows_9 : decode cX1_areLikeRows 9 = .ok (.iaload, 1) := dk_46 (dk_at dksX1_areLikeRows_0 9 rfl rfl)
theorem dX1_areLikeRows_10 : decode cX1_areLikeRows 10 = .ok (.aload_n 1, 1) := dk_43 (dk_at dksX1_areLikeRows_0 10 rfl rfl)
theorem dX1_areLikeRows_11 : decode cX1_areLikeRows 11 = .ok (.iload_n 3, 1) := dk_29 (dk_at dksX1_areLikeRows_0 11 rfl rfl)
theorem dX1_areLikeRows_12 : decode cX1_areLikeRows 12 = .ok (.iaload, 1) := dk_46 (dk_at dksX1_areLikeRows_0 12 rfl rfl)
theorem dX1_areLikeRows_13 : decode cX1_areLikeRows 13 = .ok (.if_icmp .eq 5, 3) := dk_159 0 5 (dk_at dksX1_areLikeRows_0 13 rfl rfl)
theorem dX1_areLikeRows_16 : decode cX1_areLikeRows 16 = .ok (.iconst 0, 1) := dk_3 (dk_at dksX1_areLikeRows_0 16 rfl rfl)
theorem dX1_areLikeRows_17 : decode cX1_areLikeRows 17 = .ok (.ireturn, 1) := dk_172 (dk_at dksX1_areLikeRows_0 17 rfl rfl)
theorem dX1_areLikeRows_18 : decode cX1_areLikeRows 18 = .ok (.iinc 3 1, 3) := dk_132 3 1 (dk_at dksX1_areLikeRows_0 18 rfl rfl)
theorem dX1_areLikeRows_21 : decode cX1_areLikeRows 21 = .ok (.goto (-19), 3) := dk_167 255 237 (dk_at dksX1_areLikeRows_0 21 rfl rfl)
theorem dX1_areLikeRows_24 : decode cX1_areLikeRows 24 = .ok (.iconst 1, 1) := dk_4 (dk_at dksX1_areLikeRows_1 0 rfl rfl)
theorem dX1_areLikeRows_25 : decode cX1_areLikeRows 25 = .ok (.ireturn, 1) := dk_172 (dk_at dksX1_areLikeRows_1 1 rfl rfl)
def dkwX1_ends_2 : List UInt8 := [43, 44, 180, 0, 23, 45, 180, 0, 29, 182, 0, 13, 177]
abbrev dktX1_ends_2 : List UInt8 := dkwX1_ends_2 ++ []
def dkwX1_ends_1 : List UInt8 := [45, 180, 0, 23, 9, 148, 156, 0, 18, 43, 44, 180, 0, 23, 44, 180, 0, 29, 182, 0, 13, 167, 0, 15]
abbrev dktX1_ends_1 : List UInt8 := dkwX1_ends_1 ++ dktX1_ends_2
def dkwX1_ends_0 : List UInt8 := [44, 180, 0, 23, 9, 148, 156, 0, 18, 43, 45, 180, 0, 23, 45, 180, 0, 29, 182, 0, 13, 167, 0, 39]
abbrev dktX1_ends_0 : List UInt8 := dkwX1_ends_0 ++ dktX1_ends_1
theorem dksX1_ends_0 : cX1_ends.data.toList.drop 0 = dktX1_ends_0 := by decide +kernel
theorem dksX1_ends_1 : cX1_ends.data.toList.drop 24 = dktX1_ends_1 := dk_seg dksX1_ends_0 24 rfl rfl
theorem dksX1_ends_2 : cX1_ends.data.toList.drop 48 = dktX1_ends_2 := dk_seg dksX1_ends_1 24 rfl rfl
theorem dX1_ends_0 : decode cX1_ends 0 = .ok (.aload_n 2, 1) := dk_44 (dk_at dksX1_ends_0 0 rfl rfl)
theorem dX1_ends_1 : decode cX1_ends 1 = .ok (.getfield 23, 3) := dk_180 0 23 (dk_at dksX1_ends_0 1 rfl rfl)
theorem dX1_ends_4 : decode cX1_ends 4 = .ok (.lconst 0, 1) := dk_9 (dk_at dksX1_ends_0 4 rfl rfl)
theorem dX1_ends_5 : decode cX1_ends 5 = .ok (.lcmp, 1) := dk_148 (dk_at dksX1_ends_0 5 rfl rfl)
theorem dX1_ends_6 : decode cX1_ends 6 = .ok (.ifCond .ge 18, 3) := dk_156 0 18 (dk_at dksX1_ends_0 6 rfl rfl)
theorem dX1_ends_9 : decode cX1_ends 9 = .ok (.aload_n 1, 1) := dk_43 (dk_at dksX1_ends_0 9 rfl rfl)
theorem dX1_ends_10 : decode cX1_ends 10 = .ok (.aload_n 3, 1) := dk_45 (dk_at dksX1_ends_0 10 rfl rfl)
theorem dX1_ends_11 : decode cX1_ends 11 = .ok (.getfield 23, 3) := dk_180 0 23 (dk_at dksX1_ends_0 11 rfl rfl)
theorem dX1_ends_14 : decode cX1_ends 14 = .ok (.aload_n 3, 1) := dk_45 (dk_at dksX1_ends_0 14 rfl rfl)
theorem dX1_ends_15 : decode cX1_ends 15 = .ok (.getfield 29, 3) := dk_180 0 29 (dk_at dksX1_ends_0 15 rfl rfl)
theorem dX1_ends_18 : decode cX1_ends 18 = .ok (.invokevirtual 13, 3) := dk_182 0 13 (dk_at dksX1_ends_0 18 rfl rfl)
theorem dX1_ends_21 : decode cX1_ends 21 = .ok (.goto 39, 3) := dk_167 0 39 (dk_at dksX1_ends_0 21 rfl rfl)
theorem dX1_ends_24 : decode cX1_ends 24 = .ok (.aload_n 3, 1) := dk_45 (dk_at dksX1_ends_1 0 rfl rfl)
theorem dX1_ends_25 : decode cX1_ends 25 = .ok (.getfield 23, 3) := dk_180 0 23 (dk_at dksX1_ends_1 1 rfl rfl)
theorem dX1_ends_28 : decode cX1_ends 28 = .ok (.lconst 0, 1) := dk_9 (dk_at dksX1_ends_1 4 rfl rfl)
theorem dX1_ends_29 : decode cX1_ends 29 = .ok (.lcmp, 1) := dk_148 (dk_at dksX1_ends_1 5 rfl rfl)
theorem dX1_ends_30 : decode cX1_ends 30 = .ok (.ifCond .ge 18, 3) := dk_156 0 18 (dk_at dksX1_ends_1 6 rfl rfl)
theorem dX1_ends_33 : decode cX1_ends 33 = .ok (.aload_n 1, 1) := dk_43 (dk_at dksX1_ends_1 9 rfl rfl)
theorem dX1_ends_34 : decode cX1_ends 34 = .ok (.aload_n 2, 1) := dk_44 (dk_at dksX1_ends_1 10 rfl rfl)
theorem dX1_ends_35 : decode cX1_ends 35 = .ok (.getfield 23, 3) := dk_180 0 23 (dk_at dksX1_ends_1 11 rfl rfl)
theorem dX1_ends_38 : decode cX1_ends 38 = .ok (.aload_n 2, 1) := dk_44 (dk_at dksX1_ends_1 14 rfl rfl)
theorem dX1_ends_39 : decode cX1_ends 39 = .ok (.getfield 29, 3) := dk_180 0 29 (dk_at dksX1_ends_1 15 rfl rfl)
theorem dX1_ends_42 : decode cX1_ends 42 = .ok (.invokevirtual 13, 3) := dk_182 0 13 (dk_at dksX1_ends_1 18 rfl rfl)
theorem dX1_ends_45 : decode cX1_ends 45 = .ok (.goto 15, 3) := dk_167 0 15 (dk_at dksX1_ends_1 21 rfl rfl)
theorem dX1_ends_48 : decode cX1_ends 48 = .ok (.aload_n 1, 1) := dk_43 (dk_at dksX1_ends_2 0 rfl rfl)
theorem dX1_ends_49 : decode cX1_ends 49 = .ok (.aload_n 2, 1) := dk_44 (dk_at dksX1_ends_2 1 rfl rfl)
theorem dX1_ends_50 : decode cX1_ends 50 = .ok (.getfield 23, 3) := dk_180 0 23 (dk_at dksX1_ends_2 2 rfl rfl)
theorem dX1_ends_53 : decode cX1_ends 53 = .ok (.aload_n 3, 1) := dk_45 (dk_at dksX1_ends_2 5 rfl rfl)
theorem dX1_ends_54 : decode cX1_ends 54 = .ok (.getfield 29, 3) := dk_180 0 29 (dk_at dksX1_ends_2 6 rfl rfl)
theorem dX1_ends_57 : decode cX1_ends 57 = .ok (.invokevirtual 13, 3) := dk_182 0 13 (dk_at dksX1_ends_2 9 rfl rfl)
theorem dX1_ends_60 : decode cX1_ends 60 = .ok (.return_, 1) := dk_177 (dk_at dksX1_ends_2 12 rfl rfl)
def dkwX1_byTable_1 : List UInt8 := [177]
abbrev dktX1_byTable_1 : List UInt8 := dkwX1_byTable_1 ++ []
def dkwX1_byTable_0 : List UInt8 := [43, 42, 180, 0, 37, 8, 44, 180, 0, 23, 136, 104, 45, 180, 0, 23, 136, 96, 46, 133, 9, 182, 0, 13]
abbrev dktX1_byTable_0 : List UInt8 := dkwX1_byTable_0 ++ dktX1_byTable_1
theorem dksX1_byTable_0 : cX1_byTable.data.toList.drop 0 = dktX1_byTable_0 := by decide +kernel
theorem dksX1_byTable_1 : cX1_byTable.data.toList.drop 24 = dktX1_byTable_1 := dk_seg dksX1_byTable_0 24 rfl rfl
theorem dX1_byTable_0 : decode cX1_byTable 0 = .ok (.aload_n 1, 1) := dk_43 (dk_at dksX1_byTable_0 0 rfl rfl)
theorem dX1_byTable_1 : decode cX1_byTable 1 = .ok (.aload_n 0, 1) := dk_42 (dk_at dksX1_byTable_0 1 rfl rfl)
theorem dX1_byTable_2 : decode cX1_byTable 2 = .ok (.getfield 37, 3) := dk_180 0 37 (dk_at dksX1_byTable_0 2 rfl rfl)
theorem dX1_byTable_5 : decode cX1_byTable 5 = .ok (.iconst 5, 1) := dk_8 (dk_at dksX1_byTable_0 5 rfl rfl)
theorem dX1_byTable_6 : decode cX1_byTable 6 = .ok (.aload_n 2, 1) := dk_44 (dk_at dksX1_byTable_0 6 rfl rfl)
theorem dX1_byTable_7 : decode cX1_byTable 7 = .ok (.getfield 23, 3) := dk_180 0 23 (dk_at dksX1_byTable_0 7 rfl rfl)
theorem dX1_byTable_10 : decode cX1_byTable 10 = .ok (.l2i, 1) := dk_136 (dk_at dksX1_byTable_0 10 rfl rfl)
theorem dX1_byTable_11 : decode cX1_byTable 11 = .ok (.imul, 1) := dk_104 (dk_at dksX1_byTable_0 11 rfl rfl)
theorem dX1_byTable_12 : decode cX1_byTable 12 = .ok (.aload_n 3, 1) := dk_45 (dk_at dksX1_byTable_0 12 rfl rfl)
theorem dX1_byTable_13 : decode cX1_byTable 13 = .ok (.getfield 23, 3) := dk_180 0 23 (dk_at dksX1_byTable_0 13 rfl rfl)
theorem dX1_byTable_16 : decode cX1_byTable 16 = .ok (.l2i, 1) := dk_136 (dk_at dksX1_byTable_0 16 rfl rfl)
theorem dX1_byTable_17 : decode cX1_byTable 17 = .ok (.iadd, 1) := dk_96 (dk_at dksX1_byTable_0 17 rfl rfl)
theorem dX1_byTable_18 : decode cX1_byTable 18 = .ok (.iaload, 1) := dk_46 (dk_at dksX1_byTable_0 18 rfl rfl)
theorem dX1_byTable_19 : decode cX1_byTable 19 = .ok (.i2l, 1) := dk_133 (dk_at dksX1_byTable_0 19 rfl rfl)
theorem dX1_byTable_20 : decode cX1_byTable 20 = .ok (.lconst 0, 1) := dk_9 (dk_at dksX1_byTable_0 20 rfl rfl)
theorem dX1_byTable_21 : decode cX1_byTable 21 = .ok (.invokevirtual 13, 3) := dk_182 0 13 (dk_at dksX1_byTable_0 21 rfl rfl)
theorem dX1_byTable_24 : decode cX1_byTable 24 = .ok (.return_, 1) := dk_177 (dk_at dksX1_byTable_1 0 rfl rfl)
def dkwX1_layArrangements_4 : List UInt8 := [132, 5, 1, 167, 255, 206, 132, 1, 1, 167, 255, 158, 177]
abbrev dktX1_layArrangements_4 : List UInt8 := dkwX1_layArrangements_4 ++ []
def dkwX1_layArrangements_3 : List UInt8 := [182, 0, 67, 79, 28, 21, 4, 112, 61, 21, 4, 4, 6, 21, 5, 100, 184, 0, 71, 108, 54, 4]
abbrev dktX1_layArrangements_3 : List UInt8 := dkwX1_layArrangements_3 ++ dktX1_layArrangements_4
def dkwX1_layArrangements_2 : List UInt8 := [162, 0, 50, 42, 180, 0, 59, 27, 50, 21, 5, 45, 28, 21, 4, 108, 182, 0, 63, 192, 0, 44]
abbrev dktX1_layArrangements_2 : List UInt8 := dkwX1_layArrangements_2 ++ dktX1_layArrangements_3
def dkwX1_layArrangements_1 : List UInt8 := [184, 0, 43, 6, 184, 0, 43, 184, 0, 49, 183, 0, 55, 78, 16, 6, 54, 4, 3, 54, 5, 21, 5, 7]
abbrev dktX1_layArrangements_1 : List UInt8 := dkwX1_layArrangements_1 ++ dktX1_layArrangements_2
def dkwX1_layArrangements_0 : List UInt8 := [3, 60, 27, 16, 24, 162, 0, 98, 27, 61, 187, 0, 41, 89, 3, 184, 0, 43, 4, 184, 0, 43, 5]
abbrev dktX1_layArrangements_0 : List UInt8 := dkwX1_layArrangements_0 ++ dktX1_layArrangements_1
theorem dksX1_layArrangements_0 : cX1_layArrangements.data.toList.drop 0 = dktX1_layArrangements_0 := by decide +kernel
theorem dksX1_layArrangements_1 : cX1_layArrangements.data.toList.drop 23 = dktX1_layArrangements_1 := dk_seg dksX1_layArrangements_0 23 rfl rfl
theorem dksX1_layArrangements_2 : cX1_layArrangements.data.toList.drop 47 = dktX1_layArrangements_2 := dk_seg dksX1_layArrangements_1 24 rfl rfl
theorem dksX1_layArrangements_3 : cX1_layArrangements.data.toList.drop 69 = dktX1_layArrangements_3 := dk_seg dksX1_layArrangements_2 22 rfl rfl
theorem dksX1_layArrangements_4 : cX1_layArrangements.data.toList.drop 91 = dktX1_layArrangements_4 := dk_seg dksX1_layArrangements_3 22 rfl rfl
theorem dX1_layArrangements_0 : decode cX1_layArrangements 0 = .ok (.iconst 0, 1) := dk_3 (dk_at dksX1_layArrangements_0 0 rfl rfl)
theorem dX1_layArrangements_1 : decode cX1_layArrangements 1 = .ok (.istore_n 1, 1) := dk_60 (dk_at dksX1_layArrangements_0 1 rfl rfl)
theorem dX1_layArrangements_2 : decode cX1_layArrangements 2 = .ok (.iload_n 1, 1) := dk_27 (dk_at dksX1_layArrangements_0 2 rfl rfl)
theorem dX1_layArrangements_3 : decode cX1_layArrangements 3 = .ok (.bipush 24, 2) := dk_16 24 (dk_at dksX1_layArrangements_0 3 rfl rfl)
theorem dX1_layArrangements_5 : decode cX1_layArrangements 5 = .ok (.if_icmp .ge 98, 3) := dk_162 0 98 (dk_at dksX1_layArrangements_0 5 rfl rfl)
theorem dX1_layArrangements_8 : decode cX1_layArrangements 8 = .ok (.iload_n 1, 1) := dk_27 (dk_at dksX1_layArrangements_0 8 rfl rfl)
theorem dX1_layArrangements_9 : decode cX1_layArrangements 9 = .ok (.istore_n 2, 1) := dk_61 (dk_at dksX1_layArrangements_0 9 rfl rfl)
theorem dX1_layArrangements_10 : decode cX1_layArrangements 10 = .ok (.new 41, 3) := dk_187 0 41 (dk_at dksX1_layArrangements_0 10 rfl rfl)
theorem dX1_layArrangements_13 : decode cX1_layArrangements 13 = .ok (.dup, 1) := dk_89 (dk_at dksX1_layArrangements_0 13 rfl rfl)
theorem dX1_layArrangements_14 : decode cX1_layArrangements 14 = .ok (.iconst 0, 1) := dk_3 (dk_at dksX1_layArrangements_0 14 rfl rfl)
theorem dX1_layArrangements_15 : decode cX1_layArrangements 15 = .ok (.invokestatic 43, 3) := dk_184 0 43 (dk_at dksX1_layArrangements_0 15 rfl rfl)
theorem dX1_layArrangements_18 : decode cX1_layArrangements 18 = .ok (.iconst 1, 1) := dk_4 (dk_at dksX1_layArrangements_0 18 rfl rfl)
theorem dX1_layArrangements_19 : decode cX1_layArrangements 19 = .ok (.invokestatic 43, 3) := dk_184 0 43 (dk_at dksX1_layArrangements_0 19 rfl rfl)
theorem dX1_layArrangements_22 : decode cX1_layArrangements 22 = .ok (.iconst 2, 1) := dk_5 (dk_at dksX1_layArrangements_0 22 rfl rfl)
theorem dX1_layArrangements_23 : decode cX1_layArrangements 23 = .ok (.invokestatic 43, 3) := dk_184 0 43 (dk_at dksX1_layArrangements_1 0 rfl rfl)
theorem dX1_layArrangements_26 : decode cX1_layArrangements 26 = .ok (.iconst 3, 1) := dk_6 (dk_at dksX1_layArrangements_1 3 rfl rfl)
theorem dX1_layArrangements_27 : decode cX1_layArrangements 27 = .ok (.invokestatic 43, 3) := dk_184 0 43 (dk_at dksX1_layArrangements_1 4 rfl rfl)
theorem dX1_layArrangements_30 : decode cX1_layArrangements 30 = .ok (.invokestatic 49, 3) := dk_184 0 49 (dk_at dksX1_layArrangements_1 7 rfl rfl)
theorem dX1_layArrangements_33 : decode cX1_layArrangements 33 = .ok (.invokespecial 55, 3) := dk_183 0 55 (dk_at dksX1_layArrangements_1 10 rfl rfl)
theorem dX1_layArrangements_36 : decode cX1_layArrangements 36 = .ok (.astore_n 3, 1) := dk_78 (dk_at dksX1_layArrangements_1 13 rfl rfl)
theorem dX1_layArrangements_37 : decode cX1_layArrangements 37 = .ok (.bipush 6, 2) := dk_16 6 (dk_at dksX1_layArrangements_1 14 rfl rfl)
theorem dX1_layArrangements_39 : decode cX1_layArrangements 39 = .ok (.istore 4, 2) := dk_54 4 (dk_at dksX1_layArrangements_1 16 rfl rfl)
theorem dX1_layArrangements_41 : decode cX1_layArrangements 41 = .ok (.iconst 0, 1) := dk_3 (dk_at dksX1_layArrangements_1 18 rfl rfl)
theorem dX1_layArrangements_42 : decode cX1_layArrangements 42 = .ok (.istore 5, 2) := dk_54 5 (dk_at dksX1_layArrangements_1 19 rfl rfl)
theorem dX1_layArrangements_44 : decode cX1_layArrangements 44 = .ok (.iload 5, 2) := dk_21 5 (dk_at dksX1_layArrangements_1 21 rfl rfl)
theorem dX1_layArrangements_46 : decode cX1_layArrangements 46 = .ok (.iconst 4, 1) := dk_7 (dk_at dksX1_layArrangements_1 23 rfl rfl)
theorem dX1_layArrangements_47 : decode cX1_layArrangements 47 = .ok (.if_icmp .ge 50, 3) := dk_162 0 50 (dk_at dksX1_layArrangements_2 0 rfl rfl)
theorem dX1_layArrangements_50 : decode cX1_layArrangements 50 = .ok (.aload_n 0, 1) := dk_42 (dk_at dksX1_layArrangements_2 3 rfl rfl)
theorem dX1_layArrangements_51 : decode cX1_layArrangements 51 = .ok (.getfield 59, 3) := dk_180 0 59 (dk_at dksX1_layArrangements_2 4 rfl rfl)
theorem dX1_layArrangements_54 : decode cX1_layArrangements 54 = .ok (.iload_n 1, 1) := dk_27 (dk_at dksX1_layArrangements_2 7 rfl rfl)
theorem dX1_layArrangements_55 : decode cX1_layArrangements 55 = .ok (.aaload, 1) := dk_50 (dk_at dksX1_layArrangements_2 8 rfl rfl)
theorem dX1_layArrangements_56 : decode cX1_layArrangements 56 = .ok (.iload 5, 2) := dk_21 5 (dk_at dksX1_layArrangements_2 9 rfl rfl)
theorem dX1_layArrangements_58 : decode cX1_layArrangements 58 = .ok (.aload_n 3, 1) := dk_45 (dk_at dksX1_layArrangements_2 11 rfl rfl)
theorem dX1_layArrangements_59 : decode cX1_layArrangements 59 = .ok (.iload_n 2, 1) := dk_28 (dk_at dksX1_layArrangements_2 12 rfl rfl)
theorem dX1_layArrangements_60 : decode cX1_layArrangements 60 = .ok (.iload 4, 2) := dk_21 4 (dk_at dksX1_layArrangements_2 13 rfl rfl)
theorem dX1_layArrangements_62 : decode cX1_layArrangements 62 = .ok (.idiv, 1) := dk_108 (dk_at dksX1_layArrangements_2 15 rfl rfl)
theorem dX1_layArrangements_63 : decode cX1_layArrangements 63 = .ok (.invokevirtual 63, 3) := dk_182 0 63 (dk_at dksX1_layArrangements_2 16 rfl rfl)
theorem dX1_layArrangements_66 : decode cX1_layArrangements 66 = .ok (.checkcast 44, 3) := dk_192 0 44 (dk_at dksX1_layArrangements_2 19 rfl rfl)
theorem dX1_layArrangements_69 : decode cX1_layArrangements 69 = .ok (.invokevirtual 67, 3) := dk_182 0 67 (dk_at dksX1_layArrangements_3 0 rfl rfl)
theorem dX1_layArrangements_72 : decode cX1_layArrangements 72 = .ok (.iastore, 1) := dk_79 (dk_at dksX1_layArrangements_3 3 rfl rfl)
theorem dX1_layArrangements_73 : decode cX1_layArrangements 73 = .ok (.iload_n 2, 1) := dk_28 (dk_at dksX1_layArrangements_3 4 rfl rfl)
theorem dX1_layArrangements_74 : decode cX1_layArrangements 74 = .ok (.iload 4, 2) := dk_21 4 (dk_at dksX1_layArrangements_3 5 rfl rfl)
theorem dX1_layArrangements_76 : decode cX1_layArrangements 76 = .ok (.irem, 1) := dk_112 (dk_at dksX1_layArrangements_3 7 rfl rfl)
theorem dX1_layArrangements_77 : decode cX1_layArrangements 77 = .ok (.istore_n 2, 1) := dk_61 (dk_at dksX1_layArrangements_3 8 rfl rfl)
theorem dX1_layArrangements_78 : decode cX1_layArrangements 78 = .ok (.iload 4, 2) := dk_21 4 (dk_at dksX1_layArrangements_3 9 rfl rfl)
theorem dX1_layArrangements_80 : decode cX1_layArrangements 80 = .ok (.iconst 1, 1) := dk_4 (dk_at dksX1_layArrangements_3 11 rfl rfl)
theorem dX1_layArrangements_81 : decode cX1_layArrangements 81 = .ok (.iconst 3, 1) := dk_6 (dk_at dksX1_layArrangements_3 12 rfl rfl)
theorem dX1_layArrangements_82 : decode cX1_layArrangements 82 = .ok (.iload 5, 2) := dk_21 5 (dk_at dksX1_layArrangements_3 13 rfl rfl)
theorem dX1_layArrangements_84 : decode cX1_layArrangements 84 = .ok (.isub, 1) := dk_100 (dk_at dksX1_layArrangements_3 15 rfl rfl)
theorem dX1_layArrangements_85 : decode cX1_layArrangements 85 = .ok (.invokestatic 71, 3) := dk_184 0 71 (dk_at dksX1_layArrangements_3 16 rfl rfl)
theorem dX1_layArrangements_88 : decode cX1_layArrangements 88 = .ok (.idiv, 1) := dk_108 (dk_at dksX1_layArrangements_3 19 rfl rfl)
theorem dX1_layArrangements_89 : decode cX1_layArrangements 89 = .ok (.istore 4, 2) := dk_54 4 (dk_at dksX1_layArrangements_3 20 rfl rfl)
theorem dX1_layArrangements_91 : decode cX1_layArrangements 91 = .ok (.iinc 5 1, 3) := dk_132 5 1 (dk_at dksX1_layArrangements_4 0 rfl rfl)
theorem dX1_layArrangements_94 : decode cX1_layArrangements 94 = .ok (.goto (-50), 3) := dk_167 255 206 (dk_at dksX1_layArrangements_4 3 rfl rfl)
theorem dX1_layArrangements_97 : decode cX1_layArrangements 97 = .ok (.iinc 1 1, 3) := dk_132 1 1 (dk_at dksX1_layArrangements_4 6 rfl rfl)
theorem dX1_layArrangements_100 : decode cX1_layArrangements 100 = .ok (.goto (-98), 3) := dk_167 255 158 (dk_at dksX1_layArrangements_4 9 rfl rfl)
theorem dX1_layArrangements_103 : decode cX1_layArrangements 103 = .ok (.return_, 1) := dk_177 (dk_at dksX1_layArrangements_4 12 rfl rfl)
def dkwX1_sign_2 : List UInt8 := [167, 255, 226, 42, 180, 0, 206, 172]
abbrev dktX1_sign_2 : List UInt8 := dkwX1_sign_2 ++ []
def dkwX1_sign_1 : List UInt8 := [42, 180, 0, 206, 27, 28, 122, 145, 84, 42, 89, 180, 0, 206, 4, 96, 181, 0, 206, 132, 2, 248]
abbrev dktX1_sign_1 : List UInt8 := dkwX1_sign_1 ++ dktX1_sign_2
def dkwX1_sign_0 : List UInt8 := [42, 180, 0, 206, 7, 96, 16, 100, 164, 0, 5, 2, 172, 16, 24, 61, 28, 155, 0, 32, 42, 180, 0, 176]
abbrev dktX1_sign_0 : List UInt8 := dkwX1_sign_0 ++ dktX1_sign_1
theorem dksX1_sign_0 : cX1_sign.data.toList.drop 0 = dktX1_sign_0 := by decide +kernel
theorem dksX1_sign_1 : cX1_sign.data.toList.drop 24 = dktX1_sign_1 := dk_seg dksX1_sign_0 24 rfl rfl
theorem dksX1_sign_2 : cX1_sign.data.toList.drop 46 = dktX1_sign_2 := dk_seg dksX1_sign_1 22 rfl rfl
theorem dX1_sign_0 : decode cX1_sign 0 = .ok (.aload_n 0, 1) := dk_42 (dk_at dksX1_sign_0 0 rfl rfl)
theorem dX1_sign_1 : decode cX1_sign 1 = .ok (.getfield 206, 3) := dk_180 0 206 (dk_at dksX1_sign_0 1 rfl rfl)
theorem dX1_sign_4 : decode cX1_sign 4 = .ok (.iconst 4, 1) := dk_7 (dk_at dksX1_sign_0 4 rfl rfl)
theorem dX1_sign_5 : decode cX1_sign 5 = .ok (.iadd, 1) := dk_96 (dk_at dksX1_sign_0 5 rfl rfl)
theorem dX1_sign_6 : decode cX1_sign 6 = .ok (.bipush 100, 2) := dk_16 100 (dk_at dksX1_sign_0 6 rfl rfl)
theorem dX1_sign_8 : decode cX1_sign 8 = .ok (.if_icmp .le 5, 3) := dk_164 0 5 (dk_at dksX1_sign_0 8 rfl rfl)
theorem dX1_sign_11 : decode cX1_sign 11 = .ok (.iconst (-1), 1) := dk_2 (dk_at dksX1_sign_0 11 rfl rfl)
theorem dX1_sign_12 : decode cX1_sign 12 = .ok (.ireturn, 1) := dk_172 (dk_at dksX1_sign_0 12 rfl rfl)
theorem dX1_sign_13 : decode cX1_sign 13 = .ok (.bipush 24, 2) := dk_16 24 (dk_at dksX1_sign_0 13 rfl rfl)
theorem dX1_sign_15 : decode cX1_sign 15 = .ok (.istore_n 2, 1) := dk_61 (dk_at dksX1_sign_0 15 rfl rfl)
theorem dX1_sign_16 : decode cX1_sign 16 = .ok (.iload_n 2, 1) := dk_28 (dk_at dksX1_sign_0 16 rfl rfl)
theorem dX1_sign_17 : decode cX1_sign 17 = .ok (.ifCond .lt 32, 3) := dk_155 0 32 (dk_at dksX1_sign_0 17 rfl rfl)
theorem dX1_sign_20 : decode cX1_sign 20 = .ok (.aload_n 0, 1) := dk_42 (dk_at dksX1_sign_0 20 rfl rfl)
theorem dX1_sign_21 : decode cX1_sign 21 = .ok (.getfield 176, 3) := dk_180 0 176 (dk_at dksX1_sign_0 21 rfl rfl)
theorem dX1_sign_24 : decode cX1_sign 24 = .ok (.aload_n 0, 1) := dk_42 (dk_at dksX1_sign_1 0 rfl rfl)
theorem dX1_sign_25 : decode cX1_sign 25 = .ok (.getfield 206, 3) := dk_180 0 206 (dk_at dksX1_sign_1 1 rfl rfl)
theorem dX1_sign_28 : decode cX1_sign 28 = .ok (.iload_n 1, 1) := dk_27 (dk_at dksX1_sign_1 4 rfl rfl)
theorem dX1_sign_29 : decode cX1_sign 29 = .ok (.iload_n 2, 1) := dk_28 (dk_at dksX1_sign_1 5 rfl rfl)
theorem dX1_sign_30 : decode cX1_sign 30 = .ok (.ishr, 1) := dk_122 (dk_at dksX1_sign_1 6 rfl rfl)
theorem dX1_sign_31 : decode cX1_sign 31 = .ok (.i2b, 1) := dk_145 (dk_at dksX1_sign_1 7 rfl rfl)
theorem dX1_sign_32 : decode cX1_sign 32 = .ok (.bastore, 1) := dk_84 (dk_at dksX1_sign_1 8 rfl rfl)
theorem dX1_sign_33 : decode cX1_sign 33 = .ok (.aload_n 0, 1) := dk_42 (dk_at dksX1_sign_1 9 rfl rfl)
theorem dX1_sign_34 : decode cX1_sign 34 = .ok (.dup, 1) := dk_89 (dk_at dksX1_sign_1 10 rfl rfl)
theorem dX1_sign_35 : decode cX1_sign 35 = .ok (.getfield 206, 3) := dk_180 0 206 (dk_at dksX1_sign_1 11 rfl rfl)
theorem dX1_sign_38 : decode cX1_sign 38 = .ok (.iconst 1, 1) := dk_4 (dk_at dksX1_sign_1 14 rfl rfl)
theorem dX1_sign_39 : decode cX1_sign 39 = .ok (.iadd, 1) := dk_96 (dk_at dksX1_sign_1 15 rfl rfl)
theorem dX1_sign_40 : decode cX1_sign 40 = .ok (.putfield 206, 3) := dk_181 0 206 (dk_at dksX1_sign_1 16 rfl rfl)
theorem dX1_sign_43 : decode cX1_sign 43 = .ok (.iinc 2 (-8), 3) := dk_132 2 248 (dk_at dksX1_sign_1 19 rfl rfl)
theorem dX1_sign_46 : decode cX1_sign 46 = .ok (.goto (-30), 3) := dk_167 255 226 (dk_at dksX1_sign_2 0 rfl rfl)
theorem dX1_sign_49 : decode cX1_sign 49 = .ok (.aload_n 0, 1) := dk_42 (dk_at dksX1_sign_2 3 rfl rfl)
theorem dX1_sign_50 : decode cX1_sign 50 = .ok (.getfield 206, 3) := dk_180 0 206 (dk_at dksX1_sign_2 4 rfl rfl)
theorem dX1_sign_53 : decode cX1_sign 53 = .ok (.ireturn, 1) := dk_172 (dk_at dksX1_sign_2 7 rfl rfl)
def dkwX1_end_0 : List UInt8 := [27, 133, 9, 42, 180, 0, 206, 133, 184, 0, 5, 154, 0, 5, 3, 172, 42, 27, 181, 0, 206, 4, 172]
abbrev dktX1_end_0 : List UInt8 := dkwX1_end_0 ++ []
theorem dksX1_end_0 : cX1_end.data.toList.drop 0 = dktX1_end_0 := by decide +kernel
theorem dX1_end_0 : decode cX1_end 0 = .ok (.iload_n 1, 1) := dk_27 (dk_at dksX1_end_0 0 rfl rfl)
theorem dX1_end_1 : decode cX1_end 1 = .ok (.i2l, 1) := dk_133 (dk_at dksX1_end_0 1 rfl rfl)
theorem dX1_end_2 : decode cX1_end 2 = .ok (.lconst 0, 1) := dk_9 (dk_at dksX1_end_0 2 rfl rfl)
theorem dX1_end_3 : decode cX1_end 3 = .ok (.aload_n 0, 1) := dk_42 (dk_at dksX1_end_0 3 rfl rfl)
theorem dX1_end_4 : decode cX1_end 4 = .ok (.getfield 206, 3) := dk_180 0 206 (dk_at dksX1_end_0 4 rfl rfl)
theorem dX1_end_7 : decode cX1_end 7 = .ok (.i2l, 1) := dk_133 (dk_at dksX1_end_0 7 rfl rfl)
theorem dX1_end_8 : decode cX1_end 8 = .ok (.invokestatic 5, 3) := dk_184 0 5 (dk_at dksX1_end_0 8 rfl rfl)
theorem dX1_end_11 : decode cX1_end 11 = .ok (.ifCond .ne 5, 3) := dk_154 0 5 (dk_at dksX1_end_0 11 rfl rfl)
theorem dX1_end_14 : decode cX1_end 14 = .ok (.iconst 0, 1) := dk_3 (dk_at dksX1_end_0 14 rfl rfl)
theorem dX1_end_15 : decode cX1_end 15 = .ok (.ireturn, 1) := dk_172 (dk_at dksX1_end_0 15 rfl rfl)
theorem dX1_end_16 : decode cX1_end 16 = .ok (.aload_n 0, 1) := dk_42 (dk_at dksX1_end_0 16 rfl rfl)
theorem dX1_end_17 : decode cX1_end 17 = .ok (.iload_n 1, 1) := dk_27 (dk_at dksX1_end_0 17 rfl rfl)
theorem dX1_end_18 : decode cX1_end 18 = .ok (.putfield 206, 3) := dk_181 0 206 (dk_at dksX1_end_0 18 rfl rfl)
theorem dX1_end_21 : decode cX1_end 21 = .ok (.iconst 1, 1) := dk_4 (dk_at dksX1_end_0 21 rfl rfl)
theorem dX1_end_22 : decode cX1_end 22 = .ok (.ireturn, 1) := dk_172 (dk_at dksX1_end_0 22 rfl rfl)
def dkwX1_in_0 : List UInt8 := [30, 32, 148, 155, 0, 14, 30, 22, 4, 148, 157, 0, 7, 4, 167, 0, 4, 3, 172]
abbrev dktX1_in_0 : List UInt8 := dkwX1_in_0 ++ []
theorem dksX1_in_0 : cX1_in.data.toList.drop 0 = dktX1_in_0 := by decide +kernel
theorem dX1_in_0 : decode cX1_in 0 = .ok (.lload_n 0, 1) := dk_30 (dk_at dksX1_in_0 0 rfl rfl)
theorem dX1_in_1 : decode cX1_in 1 = .ok (.lload_n 2, 1) := dk_32 (dk_at dksX1_in_0 1 rfl rfl)
theorem dX1_in_2 : decode cX1_in 2 = .ok (.lcmp, 1) := dk_148 (dk_at dksX1_in_0 2 rfl rfl)
theorem dX1_in_3 : decode cX1_in 3 = .ok (.ifCond .lt 14, 3) := dk_155 0 14 (dk_at dksX1_in_0 3 rfl rfl)
theorem dX1_in_6 : decode cX1_in 6 = .ok (.lload_n 0, 1) := dk_30 (dk_at dksX1_in_0 6 rfl rfl)
theorem dX1_in_7 : decode cX1_in 7 = .ok (.lload 4, 2) := dk_22 4 (dk_at dksX1_in_0 7 rfl rfl)
theorem dX1_in_9 : decode cX1_in 9 = .ok (.lcmp, 1) := dk_148 (dk_at dksX1_in_0 9 rfl rfl)
theorem dX1_in_10 : decode cX1_in 10 = .ok (.ifCond .gt 7, 3) := dk_157 0 7 (dk_at dksX1_in_0 10 rfl rfl)
theorem dX1_in_13 : decode cX1_in 13 = .ok (.iconst 1, 1) := dk_4 (dk_at dksX1_in_0 13 rfl rfl)
theorem dX1_in_14 : decode cX1_in 14 = .ok (.goto 4, 3) := dk_167 0 4 (dk_at dksX1_in_0 14 rfl rfl)
theorem dX1_in_17 : decode cX1_in 17 = .ok (.iconst 0, 1) := dk_3 (dk_at dksX1_in_0 17 rfl rfl)
theorem dX1_in_18 : decode cX1_in 18 = .ok (.ireturn, 1) := dk_172 (dk_at dksX1_in_0 18 rfl rfl)
def dkwX1_rule_1 : List UInt8 := [16, 254, 172, 42, 27, 181, 0, 92, 42, 182, 0, 234, 28, 172]
abbrev dktX1_rule_1 : List UInt8 := dkwX1_rule_1 ++ []
def dkwX1_rule_0 : List UInt8 := [27, 133, 9, 20, 0, 232, 184, 0, 5, 154, 0, 5, 2, 172, 42, 180, 0, 92, 61, 28, 27, 160, 0, 6]
abbrev dktX1_rule_0 : List UInt8 := dkwX1_rule_0 ++ dktX1_rule_1
theorem dksX1_rule_0 : cX1_rule.data.toList.drop 0 = dktX1_rule_0 := by decide +kernel
theorem dksX1_rule_1 : cX1_rule.data.toList.drop 24 = dktX1_rule_1 := dk_seg dksX1_rule_0 24 rfl rfl
theorem dX1_rule_0 : decode cX1_rule 0 = .ok (.iload_n 1, 1) := dk_27 (dk_at dksX1_rule_0 0 rfl rfl)
theorem dX1_rule_1 : decode cX1_rule 1 = .ok (.i2l, 1) := dk_133 (dk_at dksX1_rule_0 1 rfl rfl)
theorem dX1_rule_2 : decode cX1_rule 2 = .ok (.lconst 0, 1) := dk_9 (dk_at dksX1_rule_0 2 rfl rfl)
theorem dX1_rule_3 : decode cX1_rule 3 = .ok (.ldc2_w 232, 3) := dk_20 0 232 (dk_at dksX1_rule_0 3 rfl rfl)
theorem dX1_rule_6 : decode cX1_rule 6 = .ok (.invokestatic 5, 3) := dk_184 0 5 (dk_at dksX1_rule_0 6 rfl rfl)
theorem dX1_rule_9 : decode cX1_rule 9 = .ok (.ifCond .ne 5, 3) := dk_154 0 5 (dk_at dksX1_rule_0 9 rfl rfl)
theorem dX1_rule_12 : decode cX1_rule 12 = .ok (.iconst (-1), 1) := dk_2 (dk_at dksX1_rule_0 12 rfl rfl)
theorem dX1_rule_13 : decode cX1_rule 13 = .ok (.ireturn, 1) := dk_172 (dk_at dksX1_rule_0 13 rfl rfl)
theorem dX1_rule_14 : decode cX1_rule 14 = .ok (.aload_n 0, 1) := dk_42 (dk_at dksX1_rule_0 14 rfl rfl)
theorem dX1_rule_15 : decode cX1_rule 15 = .ok (.getfield 92, 3) := dk_180 0 92 (dk_at dksX1_rule_0 15 rfl rfl)
theorem dX1_rule_18 : decode cX1_rule 18 = .ok (.istore_n 2, 1) := dk_61 (dk_at dksX1_rule_0 18 rfl rfl)
theorem dX1_rule_19 : decode cX1_rule 19 = .ok (.iload_n 2, 1) := dk_28 (dk_at dksX1_rule_0 19 rfl rfl)
theorem dX1_rule_20 : decode cX1_rule 20 = .ok (.iload_n 1, 1) := dk_27 (dk_at dksX1_rule_0 20 rfl rfl)
theorem dX1_rule_21 : decode cX1_rule 21 = .ok (.if_icmp .ne 6, 3) := dk_160 0 6 (dk_at dksX1_rule_0 21 rfl rfl)
theorem dX1_rule_24 : decode cX1_rule 24 = .ok (.bipush (-2), 2) := dk_16 254 (dk_at dksX1_rule_1 0 rfl rfl)
theorem dX1_rule_26 : decode cX1_rule 26 = .ok (.ireturn, 1) := dk_172 (dk_at dksX1_rule_1 2 rfl rfl)
theorem dX1_rule_27 : decode cX1_rule 27 = .ok (.aload_n 0, 1) := dk_42 (dk_at dksX1_rule_1 3 rfl rfl)
theorem dX1_rule_28 : decode cX1_rule 28 = .ok (.iload_n 1, 1) := dk_27 (dk_at dksX1_rule_1 4 rfl rfl)
theorem dX1_rule_29 : decode cX1_rule 29 = .ok (.putfield 92, 3) := dk_181 0 92 (dk_at dksX1_rule_1 5 rfl rfl)
theorem dX1_rule_32 : decode cX1_rule 32 = .ok (.aload_n 0, 1) := dk_42 (dk_at dksX1_rule_1 8 rfl rfl)
theorem dX1_rule_33 : decode cX1_rule 33 = .ok (.invokevirtual 234, 3) := dk_182 0 234 (dk_at dksX1_rule_1 9 rfl rfl)
theorem dX1_rule_36 : decode cX1_rule 36 = .ok (.iload_n 2, 1) := dk_28 (dk_at dksX1_rule_1 12 rfl rfl)
theorem dX1_rule_37 : decode cX1_rule 37 = .ok (.ireturn, 1) := dk_172 (dk_at dksX1_rule_1 13 rfl rfl)
def dkwX1_laysAll_1 : List UInt8 := [185, 0, 221, 1, 0, 192, 0, 157, 77, 44, 44, 180, 0, 225, 3, 46, 182, 0, 228, 167, 255, 227, 177]
abbrev dktX1_laysAll_1 : List UInt8 := dkwX1_laysAll_1 ++ []
def dkwX1_laysAll_0 : List UInt8 := [42, 180, 0, 162, 185, 0, 211, 1, 0, 76, 43, 185, 0, 215, 1, 0, 153, 0, 26, 43]
abbrev dktX1_laysAll_0 : List UInt8 := dkwX1_laysAll_0 ++ dktX1_laysAll_1
theorem dksX1_laysAll_0 : cX1_laysAll.data.toList.drop 0 = dktX1_laysAll_0 := by decide +kernel
theorem dksX1_laysAll_1 : cX1_laysAll.data.toList.drop 20 = dktX1_laysAll_1 := dk_seg dksX1_laysAll_0 20 rfl rfl
theorem dX1_laysAll_0 : decode cX1_laysAll 0 = .ok (.aload_n 0, 1) := dk_42 (dk_at dksX1_laysAll_0 0 rfl rfl)
theorem dX1_laysAll_1 : decode cX1_laysAll 1 = .ok (.getfield 162, 3) := dk_180 0 162 (dk_at dksX1_laysAll_0 1 rfl rfl)
theorem dX1_laysAll_4 : decode cX1_laysAll 4 = .ok (.invokeinterface 211 1, 5) := by decide +kernel
theorem dX1_laysAll_9 : decode cX1_laysAll 9 = .ok (.astore_n 1, 1) := dk_76 (dk_at dksX1_laysAll_0 9 rfl rfl)
theorem dX1_laysAll_10 : decode cX1_laysAll 10 = .ok (.aload_n 1, 1) := dk_43 (dk_at dksX1_laysAll_0 10 rfl rfl)
theorem dX1_laysAll_11 : decode cX1_laysAll 11 = .ok (.invokeinterface 215 1, 5) := by decide +kernel
theorem dX1_laysAll_16 : decode cX1_laysAll 16 = .ok (.ifCond .eq 26, 3) := dk_153 0 26 (dk_at dksX1_laysAll_0 16 rfl rfl)
theorem dX1_laysAll_19 : decode cX1_laysAll 19 = .ok (.aload_n 1, 1) := dk_43 (dk_at dksX1_laysAll_0 19 rfl rfl)
theorem dX1_laysAll_20 : decode cX1_laysAll 20 = .ok (.invokeinterface 221 1, 5) := by decide +kernel
theorem dX1_laysAll_25 : decode cX1_laysAll 25 = .ok (.checkcast 157, 3) := dk_192 0 157 (dk_at dksX1_laysAll_1 5 rfl rfl)
theorem dX1_laysAll_28 : decode cX1_laysAll 28 = .ok (.astore_n 2, 1) := dk_77 (dk_at dksX1_laysAll_1 8 rfl rfl)
theorem dX1_laysAll_29 : decode cX1_laysAll 29 = .ok (.aload_n 2, 1) := dk_44 (dk_at dksX1_laysAll_1 9 rfl rfl)
theorem dX1_laysAll_30 : decode cX1_laysAll 30 = .ok (.aload_n 2, 1) := dk_44 (dk_at dksX1_laysAll_1 10 rfl rfl)
theorem dX1_laysAll_31 : decode cX1_laysAll 31 = .ok (.getfield 225, 3) := dk_180 0 225 (dk_at dksX1_laysAll_1 11 rfl rfl)
theorem dX1_laysAll_34 : decode cX1_laysAll 34 = .ok (.iconst 0, 1) := dk_3 (dk_at dksX1_laysAll_1 14 rfl rfl)
theorem dX1_laysAll_35 : decode cX1_laysAll 35 = .ok (.iaload, 1) := dk_46 (dk_at dksX1_laysAll_1 15 rfl rfl)
theorem dX1_laysAll_36 : decode cX1_laysAll 36 = .ok (.invokevirtual 228, 3) := dk_182 0 228 (dk_at dksX1_laysAll_1 16 rfl rfl)
theorem dX1_laysAll_39 : decode cX1_laysAll 39 = .ok (.goto (-29), 3) := dk_167 255 227 (dk_at dksX1_laysAll_1 19 rfl rfl)
theorem dX1_laysAll_42 : decode cX1_laysAll 42 = .ok (.return_, 1) := dk_177 (dk_at dksX1_laysAll_1 22 rfl rfl)
def dkwX1_make_0 : List UInt8 := [42, 180, 0, 88, 42, 180, 0, 92, 50, 43, 28, 185, 0, 95, 3, 0, 177]
abbrev dktX1_make_0 : List UInt8 := dkwX1_make_0 ++ []
theorem dksX1_make_0 : cX1_make.data.toList.drop 0 = dktX1_make_0 := by decide +kernel
theorem dX1_make_0 : decode cX1_make 0 = .ok (.aload_n 0, 1) := dk_42 (dk_at dksX1_make_0 0 rfl rfl)
theorem dX1_make_1 : decode cX1_make 1 = .ok (.getfield 88, 3) := dk_180 0 88 (dk_at dksX1_make_0 1 rfl rfl)
theorem dX1_make_4 : decode cX1_make 4 = .ok (.aload_n 0, 1) := dk_42 (dk_at dksX1_make_0 4 rfl rfl)
theorem dX1_make_5 : decode cX1_make 5 = .ok (.getfield 92, 3) := dk_180 0 92 (dk_at dksX1_make_0 5 rfl rfl)
theorem dX1_make_8 : decode cX1_make 8 = .ok (.aaload, 1) := dk_50 (dk_at dksX1_make_0 8 rfl rfl)
theorem dX1_make_9 : decode cX1_make 9 = .ok (.aload_n 1, 1) := dk_43 (dk_at dksX1_make_0 9 rfl rfl)
theorem dX1_make_10 : decode cX1_make 10 = .ok (.iload_n 2, 1) := dk_28 (dk_at dksX1_make_0 10 rfl rfl)
theorem dX1_make_11 : decode cX1_make 11 = .ok (.invokeinterface 95 3, 5) := by decide +kernel
theorem dX1_make_16 : decode cX1_make 16 = .ok (.return_, 1) := dk_177 (dk_at dksX1_make_0 16 rfl rfl)
def dkwX1_join_0 : List UInt8 := [42, 180, 0, 100, 42, 180, 0, 92, 50, 43, 44, 45, 185, 0, 104, 4, 0, 177]
abbrev dktX1_join_0 : List UInt8 := dkwX1_join_0 ++ []
theorem dksX1_join_0 : cX1_join.data.toList.drop 0 = dktX1_join_0 := by decide +kernel
theorem dX1_join_0 : decode cX1_join 0 = .ok (.aload_n 0, 1) := dk_42 (dk_at dksX1_join_0 0 rfl rfl)
theorem dX1_join_1 : decode cX1_join 1 = .ok (.getfield 100, 3) := dk_180 0 100 (dk_at dksX1_join_0 1 rfl rfl)
theorem dX1_join_4 : decode cX1_join 4 = .ok (.aload_n 0, 1) := dk_42 (dk_at dksX1_join_0 4 rfl rfl)
theorem dX1_join_5 : decode cX1_join 5 = .ok (.getfield 92, 3) := dk_180 0 92 (dk_at dksX1_join_0 5 rfl rfl)
theorem dX1_join_8 : decode cX1_join 8 = .ok (.aaload, 1) := dk_50 (dk_at dksX1_join_0 8 rfl rfl)
theorem dX1_join_9 : decode cX1_join 9 = .ok (.aload_n 1, 1) := dk_43 (dk_at dksX1_join_0 9 rfl rfl)
theorem dX1_join_10 : decode cX1_join 10 = .ok (.aload_n 2, 1) := dk_44 (dk_at dksX1_join_0 10 rfl rfl)
theorem dX1_join_11 : decode cX1_join 11 = .ok (.aload_n 3, 1) := dk_45 (dk_at dksX1_join_0 11 rfl rfl)
theorem dX1_join_12 : decode cX1_join 12 = .ok (.invokeinterface 104 4, 5) := by decide +kernel
theorem dX1_join_17 : decode cX1_join 17 = .ok (.return_, 1) := dk_177 (dk_at dksX1_join_0 17 rfl rfl)
def dkwX1_table_5 : List UInt8 := [181, 0, 113, 42, 180, 0, 92, 16, 7, 160, 0, 7, 42, 182, 0, 234, 29, 172]
abbrev dktX1_table_5 : List UInt8 := dkwX1_table_5 ++ []
def dkwX1_table_4 : List UInt8 := [54, 5, 21, 5, 156, 0, 6, 16, 245, 172, 42, 44, 181, 0, 37, 42, 29, 181, 0, 19, 42, 21, 5]
abbrev dktX1_table_4 : List UInt8 := dkwX1_table_4 ++ dktX1_table_5
def dkwX1_table_3 : List UInt8 := [29, 112, 133, 182, 0, 202, 42, 21, 4, 29, 112, 133, 182, 0, 202, 16, 246, 172, 44, 29, 184, 1, 16]
abbrev dktX1_table_3 : List UInt8 := dkwX1_table_3 ++ dktX1_table_4
def dkwX1_table_2 : List UInt8 := [159, 0, 42, 42, 3, 181, 0, 199, 42, 21, 4, 29, 29, 104, 108, 133, 182, 0, 202, 42, 21, 4, 29, 108]
abbrev dktX1_table_2 : List UInt8 := dkwX1_table_2 ++ dktX1_table_3
def dkwX1_table_1 : List UInt8 := [167, 0, 14, 58, 4, 16, 235, 25, 4, 180, 1, 10, 100, 172, 44, 29, 184, 1, 13, 54, 4, 21, 4, 2]
abbrev dktX1_table_1 : List UInt8 := dkwX1_table_1 ++ dktX1_table_2
def dkwX1_table_0 : List UInt8 := [42, 180, 0, 206, 60, 42, 3, 181, 0, 206, 16, 25, 188, 10, 77, 42, 44, 27, 182, 1, 6, 62]
abbrev dktX1_table_0 : List UInt8 := dkwX1_table_0 ++ dktX1_table_1
theorem dksX1_table_0 : cX1_table.data.toList.drop 0 = dktX1_table_0 := by decide +kernel
theorem dksX1_table_1 : cX1_table.data.toList.drop 22 = dktX1_table_1 := dk_seg dksX1_table_0 22 rfl rfl
theorem dksX1_table_2 : cX1_table.data.toList.drop 46 = dktX1_table_2 := dk_seg dksX1_table_1 24 rfl rfl
theorem dksX1_table_3 : cX1_table.data.toList.drop 70 = dktX1_table_3 := dk_seg dksX1_table_2 24 rfl rfl
theorem dksX1_table_4 : cX1_table.data.toList.drop 93 = dktX1_table_4 := dk_seg dksX1_table_3 23 rfl rfl
theorem dksX1_table_5 : cX1_table.data.toList.drop 116 = dktX1_table_5 := dk_seg dksX1_table_4 23 rfl rfl
theorem dX1_table_0 : decode cX1_table 0 = .ok (.aload_n 0, 1) := dk_42 (dk_at dksX1_table_0 0 rfl rfl)
theorem dX1_table_1 : decode cX1_table 1 = .ok (.getfield 206, 3) := dk_180 0 206 (dk_at dksX1_table_0 1 rfl rfl)
theorem dX1_table_4 : decode cX1_table 4 = .ok (.istore_n 1, 1) := dk_60 (dk_at dksX1_table_0 4 rfl rfl)
theorem dX1_table_5 : decode cX1_table 5 = .ok (.aload_n 0, 1) := dk_42 (dk_at dksX1_table_0 5 rfl rfl)
theorem dX1_table_6 : decode cX1_table 6 = .ok (.iconst 0, 1) := dk_3 (dk_at dksX1_table_0 6 rfl rfl)
theorem dX1_table_7 : decode cX1_table 7 = .ok (.putfield 206, 3) := dk_181 0 206 (dk_at dksX1_table_0 7 rfl rfl)
theorem dX1_table_10 : decode cX1_table 10 = .ok (.bipush 25, 2) := dk_16 25 (dk_at dksX1_table_0 10 rfl rfl)
theorem dX1_table_12 : decode cX1_table 12 = .ok (.newarray .int, 2) := dk_188_10 (dk_at dksX1_table_0 12 rfl rfl)
theorem dX1_table_14 : decode cX1_table 14 = .ok (.astore_n 2, 1) := dk_77 (dk_at dksX1_table_0 14 rfl rfl)
theorem dX1_table_15 : decode cX1_table 15 = .ok (.aload_n 0, 1) := dk_42 (dk_at dksX1_table_0 15 rfl rfl)
theorem dX1_table_16 : decode cX1_table 16 = .ok (.aload_n 2, 1) := dk_44 (dk_at dksX1_table_0 16 rfl rfl)
theorem dX1_table_17 : decode cX1_table 17 = .ok (.iload_n 1, 1) := dk_27 (dk_at dksX1_table_0 17 rfl rfl)
theorem dX1_table_18 : decode cX1_table 18 = .ok (.invokevirtual 262, 3) := dk_182 1 6 (dk_at dksX1_table_0 18 rfl rfl)
theorem dX1_table_21 : decode cX1_table 21 = .ok (.istore_n 3, 1) := dk_62 (dk_at dksX1_table_0 21 rfl rfl)
theorem dX1_table_22 : decode cX1_table 22 = .ok (.goto 14, 3) := dk_167 0 14 (dk_at dksX1_table_1 0 rfl rfl)
theorem dX1_table_25 : decode cX1_table 25 = .ok (.astore 4, 2) := dk_58 4 (dk_at dksX1_table_1 3 rfl rfl)
theorem dX1_table_27 : decode cX1_table 27 = .ok (.bipush (-21), 2) := dk_16 235 (dk_at dksX1_table_1 5 rfl rfl)
theorem dX1_table_29 : decode cX1_table 29 = .ok (.aload 4, 2) := dk_25 4 (dk_at dksX1_table_1 7 rfl rfl)
theorem dX1_table_31 : decode cX1_table 31 = .ok (.getfield 266, 3) := dk_180 1 10 (dk_at dksX1_table_1 9 rfl rfl)
theorem dX1_table_34 : decode cX1_table 34 = .ok (.isub, 1) := dk_100 (dk_at dksX1_table_1 12 rfl rfl)
theorem dX1_table_35 : decode cX1_table 35 = .ok (.ireturn, 1) := dk_172 (dk_at dksX1_table_1 13 rfl rfl)
theorem dX1_table_36 : decode cX1_table 36 = .ok (.aload_n 2, 1) := dk_44 (dk_at dksX1_table_1 14 rfl rfl)
theorem dX1_table_37 : decode cX1_table 37 = .ok (.iload_n 3, 1) := dk_29 (dk_at dksX1_table_1 15 rfl rfl)
theorem dX1_table_38 : decode cX1_table 38 = .ok (.invokestatic 269, 3) := dk_184 1 13 (dk_at dksX1_table_1 16 rfl rfl)
theorem dX1_table_41 : decode cX1_table 41 = .ok (.istore 4, 2) := dk_54 4 (dk_at dksX1_table_1 19 rfl rfl)
theorem dX1_table_43 : decode cX1_table 43 = .ok (.iload 4, 2) := dk_21 4 (dk_at dksX1_table_1 21 rfl rfl)
theorem dX1_table_45 : decode cX1_table 45 = .ok (.iconst (-1), 1) := dk_2 (dk_at dksX1_table_1 23 rfl rfl)
theorem dX1_table_46 : decode cX1_table 46 = .ok (.if_icmp .eq 42, 3) := dk_159 0 42 (dk_at dksX1_table_2 0 rfl rfl)
theorem dX1_table_49 : decode cX1_table 49 = .ok (.aload_n 0, 1) := dk_42 (dk_at dksX1_table_2 3 rfl rfl)
theorem dX1_table_50 : decode cX1_table 50 = .ok (.iconst 0, 1) := dk_3 (dk_at dksX1_table_2 4 rfl rfl)
theorem dX1_table_51 : decode cX1_table 51 = .ok (.putfield 199, 3) := dk_181 0 199 (dk_at dksX1_table_2 5 rfl rfl)
theorem dX1_table_54 : decode cX1_table 54 = .ok (.aload_n 0, 1) := dk_42 (dk_at dksX1_table_2 8 rfl rfl)
theorem dX1_table_55 : decode cX1_table 55 = .ok (.iload 4, 2) := dk_21 4 (dk_at dksX1_table_2 9 rfl rfl)
theorem dX1_table_57 : decode cX1_table 57 = .ok (.iload_n 3, 1) := dk_29 (dk_at dksX1_table_2 11 rfl rfl)
theorem dX1_table_58 : decode cX1_table 58 = .ok (.iload_n 3, 1) := dk_29 (dk_at dksX1_table_2 12 rfl rfl)
theorem dX1_table_59 : decode cX1_table 59 = .ok (.imul, 1) := dk_104 (dk_at dksX1_table_2 13 rfl rfl)
theorem dX1_table_60 : decode cX1_table 60 = .ok (.idiv, 1) := dk_108 (dk_at dksX1_table_2 14 rfl rfl)
theorem dX1_table_61 : decode cX1_table 61 = .ok (.i2l, 1) := dk_133 (dk_at dksX1_table_2 15 rfl rfl)
theorem dX1_table_62 : decode cX1_table 62 = .ok (.invokevirtual 202, 3) := dk_182 0 202 (dk_at dksX1_table_2 16 rfl rfl)
theorem dX1_table_65 : decode cX1_table 65 = .ok (.aload_n 0, 1) := dk_42 (dk_at dksX1_table_2 19 rfl rfl)
theorem dX1_table_66 : decode cX1_table 66 = .ok (.iload 4, 2) := dk_21 4 (dk_at dksX1_table_2 20 rfl rfl)
theorem dX1_table_68 : decode cX1_table 68 = .ok (.iload_n 3, 1) := dk_29 (dk_at dksX1_table_2 22 rfl rfl)
theorem dX1_table_69 : decode cX1_table 69 = .ok (.idiv, 1) := dk_108 (dk_at dksX1_table_2 23 rfl rfl)
theorem dX1_table_70 : decode cX1_table 70 = .ok (.iload_n 3, 1) := dk_29 (dk_at dksX1_table_3 0 rfl rfl)
theorem dX1_table_71 : decode cX1_table 71 = .ok (.irem, 1) := dk_112 (dk_at dksX1_table_3 1 rfl rfl)
theorem dX1_table_72 : decode cX1_table 72 = .ok (.i2l, 1) := dk_133 (dk_at dksX1_table_3 2 rfl rfl)
theorem dX1_table_73 : decode cX1_table 73 = .ok (.invokevirtual 202, 3) := dk_182 0 202 (dk_at dksX1_table_3 3 rfl rfl)
theorem dX1_table_76 : decode cX1_table 76 = .ok (.aload_n 0, 1) := dk_42 (dk_at dksX1_table_3 6 rfl rfl)
theorem dX1_table_77 : decode cX1_table 77 = .ok (.iload 4, 2) := dk_21 4 (dk_at dksX1_table_3 7 rfl rfl)
theorem dX1_table_79 : decode cX1_table 79 = .ok (.iload_n 3, 1) := dk_29 (dk_at dksX1_table_3 9 rfl rfl)
theorem dX1_table_80 : decode cX1_table 80 = .ok (.irem, 1) := dk_112 (dk_at dksX1_table_3 10 rfl rfl)
theorem dX1_table_81 : decode cX1_table 81 = .ok (.i2l, 1) := dk_133 (dk_at dksX1_table_3 11 rfl rfl)
theorem dX1_table_82 : decode cX1_table 82 = .ok (.invokevirtual 202, 3) := dk_182 0 202 (dk_at dksX1_table_3 12 rfl rfl)
theorem dX1_table_85 : decode cX1_table 85 = .ok (.bipush (-10), 2) := dk_16 246 (dk_at dksX1_table_3 15 rfl rfl)
theorem dX1_table_87 : decode cX1_table 87 = .ok (.ireturn, 1) := dk_172 (dk_at dksX1_table_3 17 rfl rfl)
theorem dX1_table_88 : decode cX1_table 88 = .ok (.aload_n 2, 1) := dk_44 (dk_at dksX1_table_3 18 rfl rfl)
theorem dX1_table_89 : decode cX1_table 89 = .ok (.iload_n 3, 1) := dk_29 (dk_at dksX1_table_3 19 rfl rfl)
theorem dX1_table_90 : decode cX1_table 90 = .ok (.invokestatic 272, 3) := dk_184 1 16 (dk_at dksX1_table_3 20 rfl rfl)
theorem dX1_table_93 : decode cX1_table 93 = .ok (.istore 5, 2) := dk_54 5 (dk_at dksX1_table_4 0 rfl rfl)
theorem dX1_table_95 : decode cX1_table 95 = .ok (.iload 5, 2) := dk_21 5 (dk_at dksX1_table_4 2 rfl rfl)
theorem dX1_table_97 : decode cX1_table 97 = .ok (.ifCond .ge 6, 3) := dk_156 0 6 (dk_at dksX1_table_4 4 rfl rfl)
theorem dX1_table_100 : decode cX1_table 100 = .ok (.bipush (-11), 2) := dk_16 245 (dk_at dksX1_table_4 7 rfl rfl)
theorem dX1_table_102 : decode cX1_table 102 = .ok (.ireturn, 1) := dk_172 (dk_at dksX1_table_4 9 rfl rfl)
theorem dX1_table_103 : decode cX1_table 103 = .ok (.aload_n 0, 1) := dk_42 (dk_at dksX1_table_4 10 rfl rfl)
theorem dX1_table_104 : decode cX1_table 104 = .ok (.aload_n 2, 1) := dk_44 (dk_at dksX1_table_4 11 rfl rfl)
theorem dX1_table_105 : decode cX1_table 105 = .ok (.putfield 37, 3) := dk_181 0 37 (dk_at dksX1_table_4 12 rfl rfl)
theorem dX1_table_108 : decode cX1_table 108 = .ok (.aload_n 0, 1) := dk_42 (dk_at dksX1_table_4 15 rfl rfl)
theorem dX1_table_109 : decode cX1_table 109 = .ok (.iload_n 3, 1) := dk_29 (dk_at dksX1_table_4 16 rfl rfl)
theorem dX1_table_110 : decode cX1_table 110 = .ok (.putfield 19, 3) := dk_181 0 19 (dk_at dksX1_table_4 17 rfl rfl)
theorem dX1_table_113 : decode cX1_table 113 = .ok (.aload_n 0, 1) := dk_42 (dk_at dksX1_table_4 20 rfl rfl)
theorem dX1_table_114 : decode cX1_table 114 = .ok (.iload 5, 2) := dk_21 5 (dk_at dksX1_table_4 21 rfl rfl)
theorem dX1_table_116 : decode cX1_table 116 = .ok (.putfield 113, 3) := dk_181 0 113 (dk_at dksX1_table_5 0 rfl rfl)
theorem dX1_table_119 : decode cX1_table 119 = .ok (.aload_n 0, 1) := dk_42 (dk_at dksX1_table_5 3 rfl rfl)
theorem dX1_table_120 : decode cX1_table 120 = .ok (.getfield 92, 3) := dk_180 0 92 (dk_at dksX1_table_5 4 rfl rfl)
theorem dX1_table_123 : decode cX1_table 123 = .ok (.bipush 7, 2) := dk_16 7 (dk_at dksX1_table_5 7 rfl rfl)
theorem dX1_table_125 : decode cX1_table 125 = .ok (.if_icmp .ne 7, 3) := dk_160 0 7 (dk_at dksX1_table_5 9 rfl rfl)
theorem dX1_table_128 : decode cX1_table 128 = .ok (.aload_n 0, 1) := dk_42 (dk_at dksX1_table_5 12 rfl rfl)
theorem dX1_table_129 : decode cX1_table 129 = .ok (.invokevirtual 234, 3) := dk_182 0 234 (dk_at dksX1_table_5 13 rfl rfl)
theorem dX1_table_132 : decode cX1_table 132 = .ok (.iload_n 3, 1) := dk_29 (dk_at dksX1_table_5 16 rfl rfl)
theorem dX1_table_133 : decode cX1_table 133 = .ok (.ireturn, 1) := dk_172 (dk_at dksX1_table_5 17 rfl rfl)
def dkwX1_readTable_7 : List UInt8 := [167, 255, 146, 21, 4, 28, 162, 0, 13, 187, 0, 244, 89, 21, 4, 183, 0, 246, 191, 29, 172]
abbrev dktX1_readTable_7 : List UInt8 := dkwX1_readTable_7 ++ []
def dkwX1_readTable_6 : List UInt8 := [180, 0, 176, 21, 4, 51, 16, 48, 100, 79, 132, 4, 1, 132, 6, 1, 167, 255, 191, 132, 5, 1]
abbrev dktX1_readTable_6 : List UInt8 := dkwX1_readTable_6 ++ dktX1_readTable_7
def dkwX1_readTable_5 : List UInt8 := [154, 0, 13, 187, 0, 244, 89, 21, 4, 183, 0, 246, 191, 43, 8, 21, 5, 104, 21, 6, 96, 42]
abbrev dktX1_readTable_5 : List UInt8 := dkwX1_readTable_5 ++ dktX1_readTable_6
def dkwX1_readTable_4 : List UInt8 := [162, 0, 65, 42, 21, 4, 28, 182, 0, 237, 133, 20, 0, 240, 16, 48, 29, 96, 4, 100, 133, 184, 0, 5]
abbrev dktX1_readTable_4 : List UInt8 := dkwX1_readTable_4 ++ dktX1_readTable_5
def dkwX1_readTable_3 : List UInt8 := [16, 47, 159, 0, 13, 187, 0, 244, 89, 21, 4, 183, 0, 246, 191, 132, 4, 1, 3, 54, 6, 21, 6, 29]
abbrev dktX1_readTable_3 : List UInt8 := dkwX1_readTable_3 ++ dktX1_readTable_4
def dkwX1_readTable_2 : List UInt8 := [54, 4, 3, 54, 5, 21, 5, 29, 162, 0, 110, 21, 5, 158, 0, 28, 42, 21, 4, 28, 182, 0, 237]
abbrev dktX1_readTable_2 : List UInt8 := dkwX1_readTable_2 ++ dktX1_readTable_3
def dkwX1_readTable_1 : List UInt8 := [153, 0, 9, 132, 3, 1, 167, 255, 229, 29, 154, 0, 12, 187, 0, 244, 89, 3, 183, 0, 246, 191, 3]
abbrev dktX1_readTable_1 : List UInt8 := dkwX1_readTable_1 ++ dktX1_readTable_2
def dkwX1_readTable_0 : List UInt8 := [3, 62, 29, 8, 162, 0, 28, 42, 29, 28, 182, 0, 237, 133, 20, 0, 240, 20, 0, 242, 184, 0, 5]
abbrev dktX1_readTable_0 : List UInt8 := dkwX1_readTable_0 ++ dktX1_readTable_1
theorem dksX1_readTable_0 : cX1_readTable.data.toList.drop 0 = dktX1_readTable_0 := by decide +kernel
theorem dksX1_readTable_1 : cX1_readTable.data.toList.drop 23 = dktX1_readTable_1 := dk_seg dksX1_readTable_0 23 rfl rfl
theorem dksX1_readTable_2 : cX1_readTable.data.toList.drop 46 = dktX1_readTable_2 := dk_seg dksX1_readTable_1 23 rfl rfl
theorem dksX1_readTable_3 : cX1_readTable.data.toList.drop 69 = dktX1_readTable_3 := dk_seg dksX1_readTable_2 23 rfl rfl
theorem dksX1_readTable_4 : cX1_readTable.data.toList.drop 93 = dktX1_readTable_4 := dk_seg dksX1_readTable_3 24 rfl rfl
theorem dksX1_readTable_5 : cX1_readTable.data.toList.drop 117 = dktX1_readTable_5 := dk_seg dksX1_readTable_4 24 rfl rfl
theorem dksX1_readTable_6 : cX1_readTable.data.toList.drop 139 = dktX1_readTable_6 := dk_seg dksX1_readTable_5 22 rfl rfl
theorem dksX1_readTable_7 : cX1_readTable.data.toList.drop 161 = dktX1_readTable_7 := dk_seg dksX1_readTable_6 22 rfl rfl
theorem dX1_readTable_0 : decode cX1_readTable 0 = .ok (.iconst 0, 1) := dk_3 (dk_at dksX1_readTable_0 0 rfl rfl)
theorem dX1_readTable_1 : decode cX1_readTable 1 = .ok (.istore_n 3, 1) := dk_62 (dk_at dksX1_readTable_0 1 rfl rfl)
theorem dX1_readTable_2 : decode cX1_readTable 2 = .ok (.iload_n 3, 1) := dk_29 (dk_at dksX1_readTable_0 2 rfl rfl)
theorem dX1_readTable_3 : decode cX1_readTable 3 = .ok (.iconst 5, 1) := dk_8 (dk_at dksX1_readTable_0 3 rfl rfl)
theorem dX1_readTable_4 : decode cX1_readTable 4 = .ok (.if_icmp .ge 28, 3) := dk_162 0 28 (dk_at dksX1_readTable_0 4 rfl rfl)
theorem dX1_readTable_7 : decode cX1_readTable 7 = .ok (.aload_n 0, 1) := dk_42 (dk_at dksX1_readTable_0 7 rfl rfl)
theorem dX1_readTable_8 : decode cX1_readTable 8 = .ok (.iload_n 3, 1) := dk_29 (dk_at dksX1_readTable_0 8 rfl rfl)
theorem dX1_readTable_9 : decode cX1_readTable 9 = .ok (.iload_n 2, 1) := dk_28 (dk_at dksX1_readTable_0 9 rfl rfl)
theorem dX1_readTable_10 : decode cX1_readTable 10 = .ok (.invokevirtual 237, 3) := dk_182 0 237 (dk_at dksX1_readTable_0 10 rfl rfl)
theorem dX1_readTable_13 : decode cX1_readTable 13 = .ok (.i2l, 1) := dk_133 (dk_at dksX1_readTable_0 13 rfl rfl)
theorem dX1_readTable_14 : decode cX1_readTable 14 = .ok (.ldc2_w 240, 3) := dk_20 0 240 (dk_at dksX1_readTable_0 14 rfl rfl)
theorem dX1_readTable_17 : decode cX1_readTable 17 = .ok (.ldc2_w 242, 3) := dk_20 0 242 (dk_at dksX1_readTable_0 17 rfl rfl)
theorem dX1_readTable_20 : decode cX1_readTable 20 = .ok (.invokestatic 5, 3) := dk_184 0 5 (dk_at dksX1_readTable_0 20 rfl rfl)
theorem dX1_readTable_23 : decode cX1_readTable 23 = .ok (.ifCond .eq 9, 3) := dk_153 0 9 (dk_at dksX1_readTable_1 0 rfl rfl)
theorem dX1_readTable_26 : decode cX1_readTable 26 = .ok (.iinc 3 1, 3) := dk_132 3 1 (dk_at dksX1_readTable_1 3 rfl rfl)
theorem dX1_readTable_29 : decode cX1_readTable 29 = .ok (.goto (-27), 3) := dk_167 255 229 (dk_at dksX1_readTable_1 6 rfl rfl)
theorem dX1_readTable_32 : decode cX1_readTable 32 = .ok (.iload_n 3, 1) := dk_29 (dk_at dksX1_readTable_1 9 rfl rfl)
theorem dX1_readTable_33 : decode cX1_readTable 33 = .ok (.ifCond .ne 12, 3) := dk_154 0 12 (dk_at dksX1_readTable_1 10 rfl rfl)
theorem dX1_readTable_36 : decode cX1_readTable 36 = .ok (.new 244, 3) := dk_187 0 244 (dk_at dksX1_readTable_1 13 rfl rfl)
theorem dX1_readTable_39 : decode cX1_readTable 39 = .ok (.dup, 1) := dk_89 (dk_at dksX1_readTable_1 16 rfl rfl)
theorem dX1_readTable_40 : decode cX1_readTable 40 = .ok (.iconst 0, 1) := dk_3 (dk_at dksX1_readTable_1 17 rfl rfl)
theorem dX1_readTable_41 : decode cX1_readTable 41 = .ok (.invokespecial 246, 3) := dk_183 0 246 (dk_at dksX1_readTable_1 18 rfl rfl)
theorem dX1_readTable_44 : decode cX1_readTable 44 = .ok (.athrow, 1) := dk_191 (dk_at dksX1_readTable_1 21 rfl rfl)
theorem dX1_readTable_45 : decode cX1_readTable 45 = .ok (.iconst 0, 1) := dk_3 (dk_at dksX1_readTable_1 22 rfl rfl)
theorem dX1_readTable_46 : decode cX1_readTable 46 = .ok (.istore 4, 2) := dk_54 4 (dk_at dksX1_readTable_2 0 rfl rfl)
theorem dX1_readTable_48 : decode cX1_readTable 48 = .ok (.iconst 0, 1) := dk_3 (dk_at dksX1_readTable_2 2 rfl rfl)
theorem dX1_readTable_49 : decode cX1_readTable 49 = .ok (.istore 5, 2) := dk_54 5 (dk_at dksX1_readTable_2 3 rfl rfl)
theorem dX1_readTable_51 : decode cX1_readTable 51 = .ok (.iload 5, 2) := dk_21 5 (dk_at dksX1_readTable_2 5 rfl rfl)
theorem dX1_readTable_53 : decode cX1_readTable 53 = .ok (.iload_n 3, 1) := dk_29 (dk_at dksX1_readTable_2 7 rfl rfl)
theorem dX1_readTable_54 : decode cX1_readTable 54 = .ok (.if_icmp .ge 110, 3) := dk_162 0 110 (dk_at dksX1_readTable_2 8 rfl rfl)
theorem dX1_readTable_57 : decode cX1_readTable 57 = .ok (.iload 5, 2) := dk_21 5 (dk_at dksX1_readTable_2 11 rfl rfl)
theorem dX1_readTable_59 : decode cX1_readTable 59 = .ok (.ifCond .le 28, 3) := dk_158 0 28 (dk_at dksX1_readTable_2 13 rfl rfl)
theorem dX1_readTable_62 : decode cX1_readTable 62 = .ok (.aload_n 0, 1) := dk_42 (dk_at dksX1_readTable_2 16 rfl rfl)
theorem dX1_readTable_63 : decode cX1_readTable 63 = .ok (.iload 4, 2) := dk_21 4 (dk_at dksX1_readTable_2 17 rfl rfl)
theorem dX1_readTable_65 : decode cX1_readTable 65 = .ok (.iload_n 2, 1) := dk_28 (dk_at dksX1_readTable_2 19 rfl rfl)
theorem dX1_readTable_66 : decode cX1_readTable 66 = .ok (.invokevirtual 237, 3) := dk_182 0 237 (dk_at dksX1_readTable_2 20 rfl rfl)
theorem dX1_readTable_69 : decode cX1_readTable 69 = .ok (.bipush 47, 2) := dk_16 47 (dk_at dksX1_readTable_3 0 rfl rfl)
theorem dX1_readTable_71 : decode cX1_readTable 71 = .ok (.if_icmp .eq 13, 3) := dk_159 0 13 (dk_at dksX1_readTable_3 2 rfl rfl)
theorem dX1_readTable_74 : decode cX1_readTable 74 = .ok (.new 244, 3) := dk_187 0 244 (dk_at dksX1_readTable_3 5 rfl rfl)
theorem dX1_readTable_77 : decode cX1_readTable 77 = .ok (.dup, 1) := dk_89 (dk_at dksX1_readTable_3 8 rfl rfl)
theorem dX1_readTable_78 : decode cX1_readTable 78 = .ok (.iload 4, 2) := dk_21 4 (dk_at dksX1_readTable_3 9 rfl rfl)
theorem dX1_readTable_80 : decode cX1_readTable 80 = .ok (.invokespecial 246, 3) := dk_183 0 246 (dk_at dksX1_readTable_3 11 rfl rfl)
theorem dX1_readTable_83 : decode cX1_readTable 83 = .ok (.athrow, 1) := dk_191 (dk_at dksX1_readTable_3 14 rfl rfl)
theorem dX1_readTable_84 : decode cX1_readTable 84 = .ok (.iinc 4 1, 3) := dk_132 4 1 (dk_at dksX1_readTable_3 15 rfl rfl)
theorem dX1_readTable_87 : decode cX1_readTable 87 = .ok (.iconst 0, 1) := dk_3 (dk_at dksX1_readTable_3 18 rfl rfl)
theorem dX1_readTable_88 : decode cX1_readTable 88 = .ok (.istore 6, 2) := dk_54 6 (dk_at dksX1_readTable_3 19 rfl rfl)
theorem dX1_readTable_90 : decode cX1_readTable 90 = .ok (.iload 6, 2) := dk_21 6 (dk_at dksX1_readTable_3 21 rfl rfl)
theorem dX1_readTable_92 : decode cX1_readTable 92 = .ok (.iload_n 3, 1) := dk_29 (dk_at dksX1_readTable_3 23 rfl rfl)
theorem dX1_readTable_93 : decode cX1_readTable 93 = .ok (.if_icmp .ge 65, 3) := dk_162 0 65 (dk_at dksX1_readTable_4 0 rfl rfl)
theorem dX1_readTable_96 : decode cX1_readTable 96 = .ok (.aload_n 0, 1) := dk_42 (dk_at dksX1_readTable_4 3 rfl rfl)
theorem dX1_readTable_97 : decode cX1_readTable 97 = .ok (.iload 4, 2) := dk_21 4 (dk_at dksX1_readTable_4 4 rfl rfl)
theorem dX1_readTable_99 : decode cX1_readTable 99 = .ok (.iload_n 2, 1) := dk_28 (dk_at dksX1_readTable_4 6 rfl rfl)
theorem dX1_readTable_100 : decode cX1_readTable 100 = .ok (.invokevirtual 237, 3) := dk_182 0 237 (dk_at dksX1_readTable_4 7 rfl rfl)
theorem dX1_readTable_103 : decode cX1_readTable 103 = .ok (.i2l, 1) := dk_133 (dk_at dksX1_readTable_4 10 rfl rfl)
theorem dX1_readTable_104 : decode cX1_readTable 104 = .ok (.ldc2_w 240, 3) := dk_20 0 240 (dk_at dksX1_readTable_4 11 rfl rfl)
theorem dX1_readTable_107 : decode cX1_readTable 107 = .ok (.bipush 48, 2) := dk_16 48 (dk_at dksX1_readTable_4 14 rfl rfl)
theorem dX1_readTable_109 : decode cX1_readTable 109 = .ok (.iload_n 3, 1) := dk_29 (dk_at dksX1_readTable_4 16 rfl rfl)
theorem dX1_readTable_110 : decode cX1_readTable 110 = .ok (.iadd, 1) := dk_96 (dk_at dksX1_readTable_4 17 rfl rfl)
theorem dX1_readTable_111 : decode cX1_readTable 111 = .ok (.iconst 1, 1) := dk_4 (dk_at dksX1_readTable_4 18 rfl rfl)
theorem dX1_readTable_112 : decode cX1_readTable 112 = .ok (.isub, 1) := dk_100 (dk_at dksX1_readTable_4 19 rfl rfl)
theorem dX1_readTable_113 : decode cX1_readTable 113 = .ok (.i2l, 1) := dk_133 (dk_at dksX1_readTable_4 20 rfl rfl)
theorem dX1_readTable_114 : decode cX1_readTable 114 = .ok (.invokestatic 5, 3) := dk_184 0 5 (dk_at dksX1_readTable_4 21 rfl rfl)
theorem dX1_readTable_117 : decode cX1_readTable 117 = .ok (.ifCond .ne 13, 3) := dk_154 0 13 (dk_at dksX1_readTable_5 0 rfl rfl)
theorem dX1_readTable_120 : decode cX1_readTable 120 = .ok (.new 244, 3) := dk_187 0 244 (dk_at dksX1_readTable_5 3 rfl rfl)
theorem dX1_readTable_123 : decode cX1_readTable 123 = .ok (.dup, 1) := dk_89 (dk_at dksX1_readTable_5 6 rfl rfl)
theorem dX1_readTable_124 : decode cX1_readTable 124 = .ok (.iload 4, 2) := dk_21 4 (dk_at dksX1_readTable_5 7 rfl rfl)
theorem dX1_readTable_126 : decode cX1_readTable 126 = .ok (.invokespecial 246, 3) := dk_183 0 246 (dk_at dksX1_readTable_5 9 rfl rfl)
theorem dX1_readTable_129 : decode cX1_readTable 129 = .ok (.athrow, 1) := dk_191 (dk_at dksX1_readTable_5 12 rfl rfl)
theorem dX1_readTable_130 : decode cX1_readTable 130 = .ok (.aload_n 1, 1) := dk_43 (dk_at dksX1_readTable_5 13 rfl rfl)
theorem dX1_readTable_131 : decode cX1_readTable 131 = .ok (.iconst 5, 1) := dk_8 (dk_at dksX1_readTable_5 14 rfl rfl)
theorem dX1_readTable_132 : decode cX1_readTable 132 = .ok (.iload 5, 2) := dk_21 5 (dk_at dksX1_readTable_5 15 rfl rfl)
theorem dX1_readTable_134 : decode cX1_readTable 134 = .ok (.imul, 1) := dk_104 (dk_at dksX1_readTable_5 17 rfl rfl)
theorem dX1_readTable_135 : decode cX1_readTable 135 = .ok (.iload 6, 2) := dk_21 6 (dk_at dksX1_readTable_5 18 rfl rfl)
theorem dX1_readTable_137 : decode cX1_readTable 137 = .ok (.iadd, 1) := dk_96 (dk_at dksX1_readTable_5 20 rfl rfl)
theorem dX1_readTable_138 : decode cX1_readTable 138 = .ok (.aload_n 0, 1) := dk_42 (dk_at dksX1_readTable_5 21 rfl rfl)
theorem dX1_readTable_139 : decode cX1_readTable 139 = .ok (.getfield 176, 3) := dk_180 0 176 (dk_at dksX1_readTable_6 0 rfl rfl)
theorem dX1_readTable_142 : decode cX1_readTable 142 = .ok (.iload 4, 2) := dk_21 4 (dk_at dksX1_readTable_6 3 rfl rfl)
theorem dX1_readTable_144 : decode cX1_readTable 144 = .ok (.baload, 1) := dk_51 (dk_at dksX1_readTable_6 5 rfl rfl)
theorem dX1_readTable_145 : decode cX1_readTable 145 = .ok (.bipush 48, 2) := dk_16 48 (dk_at dksX1_readTable_6 6 rfl rfl)
theorem dX1_readTable_147 : decode cX1_readTable 147 = .ok (.isub, 1) := dk_100 (dk_at dksX1_readTable_6 8 rfl rfl)
theorem dX1_readTable_148 : decode cX1_readTable 148 = .ok (.iastore, 1) := dk_79 (dk_at dksX1_readTable_6 9 rfl rfl)
theorem dX1_readTable_149 : decode cX1_readTable 149 = .ok (.iinc 4 1, 3) := dk_132 4 1 (dk_at dksX1_readTable_6 10 rfl rfl)
theorem dX1_readTable_152 : decode cX1_readTable 152 = .ok (.iinc 6 1, 3) := dk_132 6 1 (dk_at dksX1_readTable_6 13 rfl rfl)
theorem dX1_readTable_155 : decode cX1_readTable 155 = .ok (.goto (-65), 3) := dk_167 255 191 (dk_at dksX1_readTable_6 16 rfl rfl)
theorem dX1_readTable_158 : decode cX1_readTable 158 = .ok (.iinc 5 1, 3) := dk_132 5 1 (dk_at dksX1_readTable_6 19 rfl rfl)
theorem dX1_readTable_161 : decode cX1_readTable 161 = .ok (.goto (-110), 3) := dk_167 255 146 (dk_at dksX1_readTable_7 0 rfl rfl)
theorem dX1_readTable_164 : decode cX1_readTable 164 = .ok (.iload 4, 2) := dk_21 4 (dk_at dksX1_readTable_7 3 rfl rfl)
theorem dX1_readTable_166 : decode cX1_readTable 166 = .ok (.iload_n 2, 1) := dk_28 (dk_at dksX1_readTable_7 5 rfl rfl)
theorem dX1_readTable_167 : decode cX1_readTable 167 = .ok (.if_icmp .ge 13, 3) := dk_162 0 13 (dk_at dksX1_readTable_7 6 rfl rfl)
theorem dX1_readTable_170 : decode cX1_readTable 170 = .ok (.new 244, 3) := dk_187 0 244 (dk_at dksX1_readTable_7 9 rfl rfl)
theorem dX1_readTable_173 : decode cX1_readTable 173 = .ok (.dup, 1) := dk_89 (dk_at dksX1_readTable_7 12 rfl rfl)
theorem dX1_readTable_174 : decode cX1_readTable 174 = .ok (.iload 4, 2) := dk_21 4 (dk_at dksX1_readTable_7 13 rfl rfl)
theorem dX1_readTable_176 : decode cX1_readTable 176 = .ok (.invokespecial 246, 3) := dk_183 0 246 (dk_at dksX1_readTable_7 15 rfl rfl)
theorem dX1_readTable_179 : decode cX1_readTable 179 = .ok (.athrow, 1) := dk_191 (dk_at dksX1_readTable_7 18 rfl rfl)
theorem dX1_readTable_180 : decode cX1_readTable 180 = .ok (.iload_n 3, 1) := dk_29 (dk_at dksX1_readTable_7 19 rfl rfl)
theorem dX1_readTable_181 : decode cX1_readTable 181 = .ok (.ireturn, 1) := dk_172 (dk_at dksX1_readTable_7 20 rfl rfl)
def dkwX1_here_0 : List UInt8 := [27, 28, 162, 0, 16, 42, 180, 0, 176, 27, 51, 17, 0, 255, 126, 167, 0, 4, 2, 172]
abbrev dktX1_here_0 : List UInt8 := dkwX1_here_0 ++ []
theorem dksX1_here_0 : cX1_here.data.toList.drop 0 = dktX1_here_0 := by decide +kernel
theorem dX1_here_0 : decode cX1_here 0 = .ok (.iload_n 1, 1) := dk_27 (dk_at dksX1_here_0 0 rfl rfl)
theorem dX1_here_1 : decode cX1_here 1 = .ok (.iload_n 2, 1) := dk_28 (dk_at dksX1_here_0 1 rfl rfl)
theorem dX1_here_2 : decode cX1_here 2 = .ok (.if_icmp .ge 16, 3) := dk_162 0 16 (dk_at dksX1_here_0 2 rfl rfl)
theorem dX1_here_5 : decode cX1_here 5 = .ok (.aload_n 0, 1) := dk_42 (dk_at dksX1_here_0 5 rfl rfl)
theorem dX1_here_6 : decode cX1_here 6 = .ok (.getfield 176, 3) := dk_180 0 176 (dk_at dksX1_here_0 6 rfl rfl)
theorem dX1_here_9 : decode cX1_here 9 = .ok (.iload_n 1, 1) := dk_27 (dk_at dksX1_here_0 9 rfl rfl)
theorem dX1_here_10 : decode cX1_here 10 = .ok (.baload, 1) := dk_51 (dk_at dksX1_here_0 10 rfl rfl)
theorem dX1_here_11 : decode cX1_here 11 = .ok (.sipush 255, 3) := dk_17 0 255 (dk_at dksX1_here_0 11 rfl rfl)
theorem dX1_here_14 : decode cX1_here 14 = .ok (.iand, 1) := dk_126 (dk_at dksX1_here_0 14 rfl rfl)
theorem dX1_here_15 : decode cX1_here 15 = .ok (.goto 4, 3) := dk_167 0 4 (dk_at dksX1_here_0 15 rfl rfl)
theorem dX1_here_18 : decode cX1_here 18 = .ok (.iconst (-1), 1) := dk_2 (dk_at dksX1_here_0 18 rfl rfl)
theorem dX1_here_19 : decode cX1_here 19 = .ok (.ireturn, 1) := dk_172 (dk_at dksX1_here_0 19 rfl rfl)
def dkwX1_ungrouped_2 : List UInt8 := [42, 8, 21, 4, 104, 21, 5, 96, 46, 96, 46, 159, 0, 5, 28, 172, 132, 2, 1, 167, 255, 191, 2, 172]
abbrev dktX1_ungrouped_2 : List UInt8 := dkwX1_ungrouped_2 ++ []
def dkwX1_ungrouped_1 : List UInt8 := [28, 27, 112, 54, 5, 42, 8, 42, 8, 29, 104, 21, 4, 96, 46, 104, 21, 5, 96, 46, 42, 8, 29, 104]
abbrev dktX1_ungrouped_1 : List UInt8 := dkwX1_ungrouped_1 ++ dktX1_ungrouped_2
def dkwX1_ungrouped_0 : List UInt8 := [3, 61, 28, 27, 27, 104, 27, 104, 162, 0, 62, 28, 27, 27, 104, 108, 62, 28, 27, 108, 27, 112, 54, 4]
abbrev dktX1_ungrouped_0 : List UInt8 := dkwX1_ungrouped_0 ++ dktX1_ungrouped_1
theorem dksX1_ungrouped_0 : cX1_ungrouped.data.toList.drop 0 = dktX1_ungrouped_0 := by decide +kernel
theorem dksX1_ungrouped_1 : cX1_ungrouped.data.toList.drop 24 = dktX1_ungrouped_1 := dk_seg dksX1_ungrouped_0 24 rfl rfl
theorem dksX1_ungrouped_2 : cX1_ungrouped.data.toList.drop 48 = dktX1_ungrouped_2 := dk_seg dksX1_ungrouped_1 24 rfl rfl
theorem dX1_ungrouped_0 : decode cX1_ungrouped 0 = .ok (.iconst 0, 1) := dk_3 (dk_at dksX1_ungrouped_0 0 rfl rfl)
theorem dX1_ungrouped_1 : decode cX1_ungrouped 1 = .ok (.istore_n 2, 1) := dk_61 (dk_at dksX1_ungrouped_0 1 rfl rfl)
theorem dX1_ungrouped_2 : decode cX1_ungrouped 2 = .ok (.iload_n 2, 1) := dk_28 (dk_at dksX1_ungrouped_0 2 rfl rfl)
theorem dX1_ungrouped_3 : decode cX1_ungrouped 3 = .ok (.iload_n 1, 1) := dk_27 (dk_at dksX1_ungrouped_0 3 rfl rfl)
theorem dX1_ungrouped_4 : decode cX1_ungrouped 4 = .ok (.iload_n 1, 1) := dk_27 (dk_at dksX1_ungrouped_0 4 rfl rfl)
theorem dX1_ungrouped_5 : decode cX1_ungrouped 5 = .ok (.imul, 1) := dk_104 (dk_at dksX1_ungrouped_0 5 rfl rfl)
theorem dX1_ungrouped_6 : decode cX1_ungrouped 6 = .ok (.iload_n 1, 1) := dk_27 (dk_at dksX1_ungrouped_0 6 rfl rfl)
theorem dX1_ungrouped_7 : decode cX1_ungrouped 7 = .ok (.imul, 1) := dk_104 (dk_at dksX1_ungrouped_0 7 rfl rfl)
theorem dX1_ungrouped_8 : decode cX1_ungrouped 8 = .ok (.if_icmp .ge 62, 3) := dk_162 0 62 (dk_at dksX1_ungrouped_0 8 rfl rfl)
theorem dX1_ungrouped_11 : decode cX1_ungrouped 11 = .ok (.iload_n 2, 1) := dk_28 (dk_at dksX1_ungrouped_0 11 rfl rfl)
theorem dX1_ungrouped_12 : decode cX1_ungrouped 12 = .ok (.iload_n 1, 1) := dk_27 (dk_at dksX1_ungrouped_0 12 rfl rfl)
theorem dX1_ungrouped_13 : decode cX1_ungrouped 13 = .ok (.iload_n 1, 1) := dk_27 (dk_at dksX1_ungrouped_0 13 rfl rfl)
theorem dX1_ungrouped_14 : decode cX1_ungrouped 14 = .ok (.imul, 1) := dk_104 (dk_at dksX1_ungrouped_0 14 rfl rfl)
theorem dX1_ungrouped_15 : decode cX1_ungrouped 15 = .ok (.idiv, 1) := dk_108 (dk_at dksX1_ungrouped_0 15 rfl rfl)
theorem dX1_ungrouped_16 : decode cX1_ungrouped 16 = .ok (.istore_n 3, 1) := dk_62 (dk_at dksX1_ungrouped_0 16 rfl rfl)
theorem dX1_ungrouped_17 : decode cX1_ungrouped 17 = .ok (.iload_n 2, 1) := dk_28 (dk_at dksX1_ungrouped_0 17 rfl rfl)
theorem dX1_ungrouped_18 : decode cX1_ungrouped 18 = .ok (.iload_n 1, 1) := dk_27 (dk_at dksX1_ungrouped_0 18 rfl rfl)
theorem dX1_ungrouped_19 : decode cX1_ungrouped 19 = .ok (.idiv, 1) := dk_108 (dk_at dksX1_ungrouped_0 19 rfl rfl)
theorem dX1_ungrouped_20 : decode cX1_ungrouped 20 = .ok (.iload_n 1, 1) := dk_27 (dk_at dksX1_ungrouped_0 20 rfl rfl)
theorem dX1_ungrouped_21 : decode cX1_ungrouped 21 = .ok (.irem, 1) := dk_112 (dk_at dksX1_ungrouped_0 21 rfl rfl)
theorem dX1_ungrouped_22 : decode cX1_ungrouped 22 = .ok (.istore 4, 2) := dk_54 4 (dk_at dksX1_ungrouped_0 22 rfl rfl)
theorem dX1_ungrouped_24 : decode cX1_ungrouped 24 = .ok (.iload_n 2, 1) := dk_28 (dk_at dksX1_ungrouped_1 0 rfl rfl)
theorem dX1_ungrouped_25 : decode cX1_ungrouped 25 = .ok (.iload_n 1, 1) := dk_27 (dk_at dksX1_ungrouped_1 1 rfl rfl)
theorem dX1_ungrouped_26 : decode cX1_ungrouped 26 = .ok (.irem, 1) := dk_112 (dk_at dksX1_ungrouped_1 2 rfl rfl)
theorem dX1_ungrouped_27 : decode cX1_ungrouped 27 = .ok (.istore 5, 2) := dk_54 5 (dk_at dksX1_ungrouped_1 3 rfl rfl)
theorem dX1_ungrouped_29 : decode cX1_ungrouped 29 = .ok (.aload_n 0, 1) := dk_42 (dk_at dksX1_ungrouped_1 5 rfl rfl)
theorem dX1_ungrouped_30 : decode cX1_ungrouped 30 = .ok (.iconst 5, 1) := dk_8 (dk_at dksX1_ungrouped_1 6 rfl rfl)
theorem dX1_ungrouped_31 : decode cX1_ungrouped 31 = .ok (.aload_n 0, 1) := dk_42 (dk_at dksX1_ungrouped_1 7 rfl rfl)
theorem dX1_ungrouped_32 : decode cX1_ungrouped 32 = .ok (.iconst 5, 1) := dk_8 (dk_at dksX1_ungrouped_1 8 rfl rfl)
theorem dX1_ungrouped_33 : decode cX1_ungrouped 33 = .ok (.iload_n 3, 1) := dk_29 (dk_at dksX1_ungrouped_1 9 rfl rfl)
theorem dX1_ungrouped_34 : decode cX1_ungrouped 34 = .ok (.imul, 1) := dk_104 (dk_at dksX1_ungrouped_1 10 rfl rfl)
theorem dX1_ungrouped_35 : decode cX1_ungrouped 35 = .ok (.iload 4, 2) := dk_21 4 (dk_at dksX1_ungrouped_1 11 rfl rfl)
theorem dX1_ungrouped_37 : decode cX1_ungrouped 37 = .ok (.iadd, 1) := dk_96 (dk_at dksX1_ungrouped_1 13 rfl rfl)
theorem dX1_ungrouped_38 : decode cX1_ungrouped 38 = .ok (.iaload, 1) := dk_46 (dk_at dksX1_ungrouped_1 14 rfl rfl)
theorem dX1_ungrouped_39 : decode cX1_ungrouped 39 = .ok (.imul, 1) := dk_104 (dk_at dksX1_ungrouped_1 15 rfl rfl)
theorem dX1_ungrouped_40 : decode cX1_ungrouped 40 = .ok (.iload 5, 2) := dk_21 5 (dk_at dksX1_ungrouped_1 16 rfl rfl)
theorem dX1_ungrouped_42 : decode cX1_ungrouped 42 = .ok (.iadd, 1) := dk_96 (dk_at dksX1_ungrouped_1 18 rfl rfl)
theorem dX1_ungrouped_43 : decode cX1_ungrouped 43 = .ok (.iaload, 1) := dk_46 (dk_at dksX1_ungrouped_1 19 rfl rfl)
theorem dX1_ungrouped_44 : decode cX1_ungrouped 44 = .ok (.aload_n 0, 1) := dk_42 (dk_at dksX1_ungrouped_1 20 rfl rfl)
theorem dX1_ungrouped_45 : decode cX1_ungrouped 45 = .ok (.iconst 5, 1) := dk_8 (dk_at dksX1_ungrouped_1 21 rfl rfl)
theorem dX1_ungrouped_46 : decode cX1_ungrouped 46 = .ok (.iload_n 3, 1) := dk_29 (dk_at dksX1_ungrouped_1 22 rfl rfl)
theorem dX1_ungrouped_47 : decode cX1_ungrouped 47 = .ok (.imul, 1) := dk_104 (dk_at dksX1_ungrouped_1 23 rfl rfl)
theorem dX1_ungrouped_48 : decode cX1_ungrouped 48 = .ok (.aload_n 0, 1) := dk_42 (dk_at dksX1_ungrouped_2 0 rfl rfl)
theorem dX1_ungrouped_49 : decode cX1_ungrouped 49 = .ok (.iconst 5, 1) := dk_8 (dk_at dksX1_ungrouped_2 1 rfl rfl)
theorem dX1_ungrouped_50 : decode cX1_ungrouped 50 = .ok (.iload 4, 2) := dk_21 4 (dk_at dksX1_ungrouped_2 2 rfl rfl)
theorem dX1_ungrouped_52 : decode cX1_ungrouped 52 = .ok (.imul, 1) := dk_104 (dk_at dksX1_ungrouped_2 4 rfl rfl)
theorem dX1_ungrouped_53 : decode cX1_ungrouped 53 = .ok (.iload 5, 2) := dk_21 5 (dk_at dksX1_ungrouped_2 5 rfl rfl)
theorem dX1_ungrouped_55 : decode cX1_ungrouped 55 = .ok (.iadd, 1) := dk_96 (dk_at dksX1_ungrouped_2 7 rfl rfl)
theorem dX1_ungrouped_56 : decode cX1_ungrouped 56 = .ok (.iaload, 1) := dk_46 (dk_at dksX1_ungrouped_2 8 rfl rfl)
theorem dX1_ungrouped_57 : decode cX1_ungrouped 57 = .ok (.iadd, 1) := dk_96 (dk_at dksX1_ungrouped_2 9 rfl rfl)
theorem dX1_ungrouped_58 : decode cX1_ungrouped 58 = .ok (.iaload, 1) := dk_46 (dk_at dksX1_ungrouped_2 10 rfl rfl)
theorem dX1_ungrouped_59 : decode cX1_ungrouped 59 = .ok (.if_icmp .eq 5, 3) := dk_159 0 5 (dk_at dksX1_ungrouped_2 11 rfl rfl)
theorem dX1_ungrouped_62 : decode cX1_ungrouped 62 = .ok (.iload_n 2, 1) := dk_28 (dk_at dksX1_ungrouped_2 14 rfl rfl)
theorem dX1_ungrouped_63 : decode cX1_ungrouped 63 = .ok (.ireturn, 1) := dk_172 (dk_at dksX1_ungrouped_2 15 rfl rfl)
theorem dX1_ungrouped_64 : decode cX1_ungrouped 64 = .ok (.iinc 2 1, 3) := dk_132 2 1 (dk_at dksX1_ungrouped_2 16 rfl rfl)
theorem dX1_ungrouped_67 : decode cX1_ungrouped 67 = .ok (.goto (-65), 3) := dk_167 255 191 (dk_at dksX1_ungrouped_2 19 rfl rfl)
theorem dX1_ungrouped_70 : decode cX1_ungrouped 70 = .ok (.iconst (-1), 1) := dk_2 (dk_at dksX1_ungrouped_2 22 rfl rfl)
theorem dX1_ungrouped_71 : decode cX1_ungrouped 71 = .ok (.ireturn, 1) := dk_172 (dk_at dksX1_ungrouped_2 23 rfl rfl)
def dkwX1_tells_0 : List UInt8 := [42, 180, 0, 180, 42, 180, 0, 199, 31, 80, 42, 89, 180, 0, 199, 4, 96, 181, 0, 199, 177]
abbrev dktX1_tells_0 : List UInt8 := dkwX1_tells_0 ++ []
theorem dksX1_tells_0 : cX1_tells.data.toList.drop 0 = dktX1_tells_0 := by decide +kernel
theorem dX1_tells_0 : decode cX1_tells 0 = .ok (.aload_n 0, 1) := dk_42 (dk_at dksX1_tells_0 0 rfl rfl)
theorem dX1_tells_1 : decode cX1_tells 1 = .ok (.getfield 180, 3) := dk_180 0 180 (dk_at dksX1_tells_0 1 rfl rfl)
theorem dX1_tells_4 : decode cX1_tells 4 = .ok (.aload_n 0, 1) := dk_42 (dk_at dksX1_tells_0 4 rfl rfl)
theorem dX1_tells_5 : decode cX1_tells 5 = .ok (.getfield 199, 3) := dk_180 0 199 (dk_at dksX1_tells_0 5 rfl rfl)
theorem dX1_tells_8 : decode cX1_tells 8 = .ok (.lload_n 1, 1) := dk_31 (dk_at dksX1_tells_0 8 rfl rfl)
theorem dX1_tells_9 : decode cX1_tells 9 = .ok (.lastore, 1) := dk_80 (dk_at dksX1_tells_0 9 rfl rfl)
theorem dX1_tells_10 : decode cX1_tells 10 = .ok (.aload_n 0, 1) := dk_42 (dk_at dksX1_tells_0 10 rfl rfl)
theorem dX1_tells_11 : decode cX1_tells 11 = .ok (.dup, 1) := dk_89 (dk_at dksX1_tells_0 11 rfl rfl)
theorem dX1_tells_12 : decode cX1_tells 12 = .ok (.getfield 199, 3) := dk_180 0 199 (dk_at dksX1_tells_0 12 rfl rfl)
theorem dX1_tells_15 : decode cX1_tells 15 = .ok (.iconst 1, 1) := dk_4 (dk_at dksX1_tells_0 15 rfl rfl)
theorem dX1_tells_16 : decode cX1_tells 16 = .ok (.iadd, 1) := dk_96 (dk_at dksX1_tells_0 16 rfl rfl)
theorem dX1_tells_17 : decode cX1_tells 17 = .ok (.putfield 199, 3) := dk_181 0 199 (dk_at dksX1_tells_0 17 rfl rfl)
theorem dX1_tells_20 : decode cX1_tells 20 = .ok (.return_, 1) := dk_177 (dk_at dksX1_tells_0 20 rfl rfl)
def dkwX1_neutralOf_3 : List UInt8 := [132, 3, 1, 167, 255, 202, 44, 3, 182, 1, 2, 172]
abbrev dktX1_neutralOf_3 : List UInt8 := dkwX1_neutralOf_3 ++ []
def dkwX1_neutralOf_2 : List UInt8 := [21, 4, 104, 29, 96, 46, 21, 4, 159, 0, 8, 44, 29, 182, 0, 255, 132, 4, 1, 167, 255, 216]
abbrev dktX1_neutralOf_2 : List UInt8 := dkwX1_neutralOf_2 ++ dktX1_neutralOf_3
def dkwX1_neutralOf_1 : List UInt8 := [54, 4, 21, 4, 27, 162, 0, 40, 42, 8, 29, 104, 21, 4, 96, 46, 21, 4, 160, 0, 16, 42, 8]
abbrev dktX1_neutralOf_1 : List UInt8 := dkwX1_neutralOf_1 ++ dktX1_neutralOf_2
def dkwX1_neutralOf_0 : List UInt8 := [187, 0, 248, 89, 8, 183, 0, 250, 77, 44, 3, 27, 182, 0, 251, 3, 62, 29, 27, 162, 0, 55, 3]
abbrev dktX1_neutralOf_0 : List UInt8 := dkwX1_neutralOf_0 ++ dktX1_neutralOf_1
theorem dksX1_neutralOf_0 : cX1_neutralOf.data.toList.drop 0 = dktX1_neutralOf_0 := by decide +kernel
theorem dksX1_neutralOf_1 : cX1_neutralOf.data.toList.drop 23 = dktX1_neutralOf_1 := dk_seg dksX1_neutralOf_0 23 rfl rfl
theorem dksX1_neutralOf_2 : cX1_neutralOf.data.toList.drop 46 = dktX1_neutralOf_2 := dk_seg dksX1_neutralOf_1 23 rfl rfl
theorem dksX1_neutralOf_3 : cX1_neutralOf.data.toList.drop 68 = dktX1_neutralOf_3 := dk_seg dksX1_neutralOf_2 22 rfl rfl
theorem dX1_neutralOf_0 : decode cX1_neutralOf 0 = .ok (.new 248, 3) := dk_187 0 248 (dk_at dksX1_neutralOf_0 0 rfl rfl)
theorem dX1_neutralOf_3 : decode cX1_neutralOf 3 = .ok (.dup, 1) := dk_89 (dk_at dksX1_neutralOf_0 3 rfl rfl)
theorem dX1_neutralOf_4 : decode cX1_neutralOf 4 = .ok (.iconst 5, 1) := dk_8 (dk_at dksX1_neutralOf_0 4 rfl rfl)
theorem dX1_neutralOf_5 : decode cX1_neutralOf 5 = .ok (.invokespecial 250, 3) := dk_183 0 250 (dk_at dksX1_neutralOf_0 5 rfl rfl)
theorem dX1_neutralOf_8 : decode cX1_neutralOf 8 = .ok (.astore_n 2, 1) := dk_77 (dk_at dksX1_neutralOf_0 8 rfl rfl)
theorem dX1_neutralOf_9 : decode cX1_neutralOf 9 = .ok (.aload_n 2, 1) := dk_44 (dk_at dksX1_neutralOf_0 9 rfl rfl)
theorem dX1_neutralOf_10 : decode cX1_neutralOf 10 = .ok (.iconst 0, 1) := dk_3 (dk_at dksX1_neutralOf_0 10 rfl rfl)
theorem dX1_neutralOf_11 : decode cX1_neutralOf 11 = .ok (.iload_n 1, 1) := dk_27 (dk_at dksX1_neutralOf_0 11 rfl rfl)
theorem dX1_neutralOf_12 : decode cX1_neutralOf 12 = .ok (.invokevirtual 251, 3) := dk_182 0 251 (dk_at dksX1_neutralOf_0 12 rfl rfl)
theorem dX1_neutralOf_15 : decode cX1_neutralOf 15 = .ok (.iconst 0, 1) := dk_3 (dk_at dksX1_neutralOf_0 15 rfl rfl)
theorem dX1_neutralOf_16 : decode cX1_neutralOf 16 = .ok (.istore_n 3, 1) := dk_62 (dk_at dksX1_neutralOf_0 16 rfl rfl)
theorem dX1_neutralOf_17 : decode cX1_neutralOf 17 = .ok (.iload_n 3, 1) := dk_29 (dk_at dksX1_neutralOf_0 17 rfl rfl)
theorem dX1_neutralOf_18 : decode cX1_neutralOf 18 = .ok (.iload_n 1, 1) := dk_27 (dk_at dksX1_neutralOf_0 18 rfl rfl)
theorem dX1_neutralOf_19 : decode cX1_neutralOf 19 = .ok (.if_icmp .ge 55, 3) := dk_162 0 55 (dk_at dksX1_neutralOf_0 19 rfl rfl)
theorem dX1_neutralOf_22 : decode cX1_neutralOf 22 = .ok (.iconst 0, 1) := dk_3 (dk_at dksX1_neutralOf_0 22 rfl rfl)
theorem dX1_neutralOf_23 : decode cX1_neutralOf 23 = .ok (.istore 4, 2) := dk_54 4 (dk_at dksX1_neutralOf_1 0 rfl rfl)
theorem dX1_neutralOf_25 : decode cX1_neutralOf 25 = .ok (.iload 4, 2) := dk_21 4 (dk_at dksX1_neutralOf_1 2 rfl rfl)
theorem dX1_neutralOf_27 : decode cX1_neutralOf 27 = .ok (.iload_n 1, 1) := dk_27 (dk_at dksX1_neutralOf_1 4 rfl rfl)
theorem dX1_neutralOf_28 : decode cX1_neutralOf 28 = .ok (.if_icmp .ge 40, 3) := dk_162 0 40 (dk_at dksX1_neutralOf_1 5 rfl rfl)
theorem dX1_neutralOf_31 : decode cX1_neutralOf 31 = .ok (.aload_n 0, 1) := dk_42 (dk_at dksX1_neutralOf_1 8 rfl rfl)
theorem dX1_neutralOf_32 : decode cX1_neutralOf 32 = .ok (.iconst 5, 1) := dk_8 (dk_at dksX1_neutralOf_1 9 rfl rfl)
theorem dX1_neutralOf_33 : decode cX1_neutralOf 33 = .ok (.iload_n 3, 1) := dk_29 (dk_at dksX1_neutralOf_1 10 rfl rfl)
theorem dX1_neutralOf_34 : decode cX1_neutralOf 34 = .ok (.imul, 1) := dk_104 (dk_at dksX1_neutralOf_1 11 rfl rfl)
theorem dX1_neutralOf_35 : decode cX1_neutralOf 35 = .ok (.iload 4, 2) := dk_21 4 (dk_at dksX1_neutralOf_1 12 rfl rfl)
theorem dX1_neutralOf_37 : decode cX1_neutralOf 37 = .ok (.iadd, 1) := dk_96 (dk_at dksX1_neutralOf_1 14 rfl rfl)
theorem dX1_neutralOf_38 : decode cX1_neutralOf 38 = .ok (.iaload, 1) := dk_46 (dk_at dksX1_neutralOf_1 15 rfl rfl)
theorem dX1_neutralOf_39 : decode cX1_neutralOf 39 = .ok (.iload 4, 2) := dk_21 4 (dk_at dksX1_neutralOf_1 16 rfl rfl)
theorem dX1_neutralOf_41 : decode cX1_neutralOf 41 = .ok (.if_icmp .ne 16, 3) := dk_160 0 16 (dk_at dksX1_neutralOf_1 18 rfl rfl)
theorem dX1_neutralOf_44 : decode cX1_neutralOf 44 = .ok (.aload_n 0, 1) := dk_42 (dk_at dksX1_neutralOf_1 21 rfl rfl)
theorem dX1_neutralOf_45 : decode cX1_neutralOf 45 = .ok (.iconst 5, 1) := dk_8 (dk_at dksX1_neutralOf_1 22 rfl rfl)
theorem dX1_neutralOf_46 : decode cX1_neutralOf 46 = .ok (.iload 4, 2) := dk_21 4 (dk_at dksX1_neutralOf_2 0 rfl rfl)
theorem dX1_neutralOf_48 : decode cX1_neutralOf 48 = .ok (.imul, 1) := dk_104 (dk_at dksX1_neutralOf_2 2 rfl rfl)
theorem dX1_neutralOf_49 : decode cX1_neutralOf 49 = .ok (.iload_n 3, 1) := dk_29 (dk_at dksX1_neutralOf_2 3 rfl rfl)
theorem dX1_neutralOf_50 : decode cX1_neutralOf 50 = .ok (.iadd, 1) := dk_96 (dk_at dksX1_neutralOf_2 4 rfl rfl)
theorem dX1_neutralOf_51 : decode cX1_neutralOf 51 = .ok (.iaload, 1) := dk_46 (dk_at dksX1_neutralOf_2 5 rfl rfl)
theorem dX1_neutralOf_52 : decode cX1_neutralOf 52 = .ok (.iload 4, 2) := dk_21 4 (dk_at dksX1_neutralOf_2 6 rfl rfl)
theorem dX1_neutralOf_54 : decode cX1_neutralOf 54 = .ok (.if_icmp .eq 8, 3) := dk_159 0 8 (dk_at dksX1_neutralOf_2 8 rfl rfl)
theorem dX1_neutralOf_57 : decode cX1_neutralOf 57 = .ok (.aload_n 2, 1) := dk_44 (dk_at dksX1_neutralOf_2 11 rfl rfl)
theorem dX1_neutralOf_58 : decode cX1_neutralOf 58 = .ok (.iload_n 3, 1) := dk_29 (dk_at dksX1_neutralOf_2 12 rfl rfl)
theorem dX1_neutralOf_59 : decode cX1_neutralOf 59 = .ok (.invokevirtual 255, 3) := dk_182 0 255 (dk_at dksX1_neutralOf_2 13 rfl rfl)
theorem dX1_neutralOf_62 : decode cX1_neutralOf 62 = .ok (.iinc 4 1, 3) := dk_132 4 1 (dk_at dksX1_neutralOf_2 16 rfl rfl)
theorem dX1_neutralOf_65 : decode cX1_neutralOf 65 = .ok (.goto (-40), 3) := dk_167 255 216 (dk_at dksX1_neutralOf_2 19 rfl rfl)
theorem dX1_neutralOf_68 : decode cX1_neutralOf 68 = .ok (.iinc 3 1, 3) := dk_132 3 1 (dk_at dksX1_neutralOf_3 0 rfl rfl)
theorem dX1_neutralOf_71 : decode cX1_neutralOf 71 = .ok (.goto (-54), 3) := dk_167 255 202 (dk_at dksX1_neutralOf_3 3 rfl rfl)
theorem dX1_neutralOf_74 : decode cX1_neutralOf 74 = .ok (.aload_n 2, 1) := dk_44 (dk_at dksX1_neutralOf_3 6 rfl rfl)
theorem dX1_neutralOf_75 : decode cX1_neutralOf 75 = .ok (.iconst 0, 1) := dk_3 (dk_at dksX1_neutralOf_3 7 rfl rfl)
theorem dX1_neutralOf_76 : decode cX1_neutralOf 76 = .ok (.invokevirtual 258, 3) := dk_182 1 2 (dk_at dksX1_neutralOf_3 8 rfl rfl)
theorem dX1_neutralOf_79 : decode cX1_neutralOf 79 = .ok (.ireturn, 1) := dk_172 (dk_at dksX1_neutralOf_3 11 rfl rfl)
def dkwX1_commutes_5 : List UInt8 := [154, 0, 7, 4, 167, 0, 4, 3, 172]
abbrev dktX1_commutes_5 : List UInt8 := dkwX1_commutes_5 ++ []
def dkwX1_commutes_4 : List UInt8 := [47, 42, 180, 0, 180, 5, 47, 148, 154, 0, 23, 42, 180, 0, 180, 4, 47, 42, 180, 0, 180, 6, 47, 148]
abbrev dktX1_commutes_4 : List UInt8 := dkwX1_commutes_4 ++ dktX1_commutes_5
def dkwX1_commutes_3 : List UInt8 := [42, 180, 0, 151, 42, 180, 0, 147, 182, 1, 26, 42, 42, 180, 0, 154, 182, 1, 29, 42, 180, 0, 180, 3]
abbrev dktX1_commutes_3 : List UInt8 := dkwX1_commutes_3 ++ dktX1_commutes_4
def dkwX1_commutes_2 : List UInt8 := [180, 0, 151, 182, 1, 26, 42, 3, 181, 0, 199, 42, 42, 180, 0, 154, 182, 1, 29, 42, 42, 180, 0, 154]
abbrev dktX1_commutes_2 : List UInt8 := dkwX1_commutes_2 ++ dktX1_commutes_3
def dkwX1_commutes_1 : List UInt8 := [182, 1, 23, 42, 42, 180, 0, 151, 28, 182, 1, 23, 42, 42, 180, 0, 154, 42, 180, 0, 147, 42]
abbrev dktX1_commutes_1 : List UInt8 := dkwX1_commutes_1 ++ dktX1_commutes_2
def dkwX1_commutes_0 : List UInt8 := [27, 184, 1, 19, 153, 0, 10, 28, 184, 1, 19, 154, 0, 5, 2, 172, 42, 42, 180, 0, 147, 27]
abbrev dktX1_commutes_0 : List UInt8 := dkwX1_commutes_0 ++ dktX1_commutes_1
theorem dksX1_commutes_0 : cX1_commutes.data.toList.drop 0 = dktX1_commutes_0 := by decide +kernel
theorem dksX1_commutes_1 : cX1_commutes.data.toList.drop 22 = dktX1_commutes_1 := dk_seg dksX1_commutes_0 22 rfl rfl
theorem dksX1_commutes_2 : cX1_commutes.data.toList.drop 44 = dktX1_commutes_2 := dk_seg dksX1_commutes_1 22 rfl rfl
theorem dksX1_commutes_3 : cX1_commutes.data.toList.drop 68 = dktX1_commutes_3 := dk_seg dksX1_commutes_2 24 rfl rfl
theorem dksX1_commutes_4 : cX1_commutes.data.toList.drop 92 = dktX1_commutes_4 := dk_seg dksX1_commutes_3 24 rfl rfl
theorem dksX1_commutes_5 : cX1_commutes.data.toList.drop 116 = dktX1_commutes_5 := dk_seg dksX1_commutes_4 24 rfl rfl
theorem dX1_commutes_0 : decode cX1_commutes 0 = .ok (.iload_n 1, 1) := dk_27 (dk_at dksX1_commutes_0 0 rfl rfl)
theorem dX1_commutes_1 : decode cX1_commutes 1 = .ok (.invokestatic 275, 3) := dk_184 1 19 (dk_at dksX1_commutes_0 1 rfl rfl)
theorem dX1_commutes_4 : decode cX1_commutes 4 = .ok (.ifCond .eq 10, 3) := dk_153 0 10 (dk_at dksX1_commutes_0 4 rfl rfl)
theorem dX1_commutes_7 : decode cX1_commutes 7 = .ok (.iload_n 2, 1) := dk_28 (dk_at dksX1_commutes_0 7 rfl rfl)
theorem dX1_commutes_8 : decode cX1_commutes 8 = .ok (.invokestatic 275, 3) := dk_184 1 19 (dk_at dksX1_commutes_0 8 rfl rfl)
theorem dX1_commutes_11 : decode cX1_commutes 11 = .ok (.ifCond .ne 5, 3) := dk_154 0 5 (dk_at dksX1_commutes_0 11 rfl rfl)
theorem dX1_commutes_14 : decode cX1_commutes 14 = .ok (.iconst (-1), 1) := dk_2 (dk_at dksX1_commutes_0 14 rfl rfl)
theorem dX1_commutes_15 : decode cX1_commutes 15 = .ok (.ireturn, 1) := dk_172 (dk_at dksX1_commutes_0 15 rfl rfl)
theorem dX1_commutes_16 : decode cX1_commutes 16 = .ok (.aload_n 0, 1) := dk_42 (dk_at dksX1_commutes_0 16 rfl rfl)
theorem dX1_commutes_17 : decode cX1_commutes 17 = .ok (.aload_n 0, 1) := dk_42 (dk_at dksX1_commutes_0 17 rfl rfl)
theorem dX1_commutes_18 : decode cX1_commutes 18 = .ok (.getfield 147, 3) := dk_180 0 147 (dk_at dksX1_commutes_0 18 rfl rfl)
theorem dX1_commutes_21 : decode cX1_commutes 21 = .ok (.iload_n 1, 1) := dk_27 (dk_at dksX1_commutes_0 21 rfl rfl)
theorem dX1_commutes_22 : decode cX1_commutes 22 = .ok (.invokevirtual 279, 3) := dk_182 1 23 (dk_at dksX1_commutes_1 0 rfl rfl)
theorem dX1_commutes_25 : decode cX1_commutes 25 = .ok (.aload_n 0, 1) := dk_42 (dk_at dksX1_commutes_1 3 rfl rfl)
theorem dX1_commutes_26 : decode cX1_commutes 26 = .ok (.aload_n 0, 1) := dk_42 (dk_at dksX1_commutes_1 4 rfl rfl)
theorem dX1_commutes_27 : decode cX1_commutes 27 = .ok (.getfield 151, 3) := dk_180 0 151 (dk_at dksX1_commutes_1 5 rfl rfl)
theorem dX1_commutes_30 : decode cX1_commutes 30 = .ok (.iload_n 2, 1) := dk_28 (dk_at dksX1_commutes_1 8 rfl rfl)
theorem dX1_commutes_31 : decode cX1_commutes 31 = .ok (.invokevirtual 279, 3) := dk_182 1 23 (dk_at dksX1_commutes_1 9 rfl rfl)
theorem dX1_commutes_34 : decode cX1_commutes 34 = .ok (.aload_n 0, 1) := dk_42 (dk_at dksX1_commutes_1 12 rfl rfl)
theorem dX1_commutes_35 : decode cX1_commutes 35 = .ok (.aload_n 0, 1) := dk_42 (dk_at dksX1_commutes_1 13 rfl rfl)
theorem dX1_commutes_36 : decode cX1_commutes 36 = .ok (.getfield 154, 3) := dk_180 0 154 (dk_at dksX1_commutes_1 14 rfl rfl)
theorem dX1_commutes_39 : decode cX1_commutes 39 = .ok (.aload_n 0, 1) := dk_42 (dk_at dksX1_commutes_1 17 rfl rfl)
theorem dX1_commutes_40 : decode cX1_commutes 40 = .ok (.getfield 147, 3) := dk_180 0 147 (dk_at dksX1_commutes_1 18 rfl rfl)
theorem dX1_commutes_43 : decode cX1_commutes 43 = .ok (.aload_n 0, 1) := dk_42 (dk_at dksX1_commutes_1 21 rfl rfl)
theorem dX1_commutes_44 : decode cX1_commutes 44 = .ok (.getfield 151, 3) := dk_180 0 151 (dk_at dksX1_commutes_2 0 rfl rfl)
theorem dX1_commutes_47 : decode cX1_commutes 47 = .ok (.invokevirtual 282, 3) := dk_182 1 26 (dk_at dksX1_commutes_2 3 rfl rfl)
theorem dX1_commutes_50 : decode cX1_commutes 50 = .ok (.aload_n 0, 1) := dk_42 (dk_at dksX1_commutes_2 6 rfl rfl)
theorem dX1_commutes_51 : decode cX1_commutes 51 = .ok (.iconst 0, 1) := dk_3 (dk_at dksX1_commutes_2 7 rfl rfl)
theorem dX1_commutes_52 : decode cX1_commutes 52 = .ok (.putfield 199, 3) := dk_181 0 199 (dk_at dksX1_commutes_2 8 rfl rfl)
theorem dX1_commutes_55 : decode cX1_commutes 55 = .ok (.aload_n 0, 1) := dk_42 (dk_at dksX1_commutes_2 11 rfl rfl)
theorem dX1_commutes_56 : decode cX1_commutes 56 = .ok (.aload_n 0, 1) := dk_42 (dk_at dksX1_commutes_2 12 rfl rfl)
theorem dX1_commutes_57 : decode cX1_commutes 57 = .ok (.getfield 154, 3) := dk_180 0 154 (dk_at dksX1_commutes_2 13 rfl rfl)
theorem dX1_commutes_60 : decode cX1_commutes 60 = .ok (.invokevirtual 285, 3) := dk_182 1 29 (dk_at dksX1_commutes_2 16 rfl rfl)
theorem dX1_commutes_63 : decode cX1_commutes 63 = .ok (.aload_n 0, 1) := dk_42 (dk_at dksX1_commutes_2 19 rfl rfl)
theorem dX1_commutes_64 : decode cX1_commutes 64 = .ok (.aload_n 0, 1) := dk_42 (dk_at dksX1_commutes_2 20 rfl rfl)
theorem dX1_commutes_65 : decode cX1_commutes 65 = .ok (.getfield 154, 3) := dk_180 0 154 (dk_at dksX1_commutes_2 21 rfl rfl)
theorem dX1_commutes_68 : decode cX1_commutes 68 = .ok (.aload_n 0, 1) := dk_42 (dk_at dksX1_commutes_3 0 rfl rfl)
theorem dX1_commutes_69 : decode cX1_commutes 69 = .ok (.getfield 151, 3) := dk_180 0 151 (dk_at dksX1_commutes_3 1 rfl rfl)
theorem dX1_commutes_72 : decode cX1_commutes 72 = .ok (.aload_n 0, 1) := dk_42 (dk_at dksX1_commutes_3 4 rfl rfl)
theorem dX1_commutes_73 : decode cX1_commutes 73 = .ok (.getfield 147, 3) := dk_180 0 147 (dk_at dksX1_commutes_3 5 rfl rfl)
theorem dX1_commutes_76 : decode cX1_commutes 76 = .ok (.invokevirtual 282, 3) := dk_182 1 26 (dk_at dksX1_commutes_3 8 rfl rfl)
theorem dX1_commutes_79 : decode cX1_commutes 79 = .ok (.aload_n 0, 1) := dk_42 (dk_at dksX1_commutes_3 11 rfl rfl)
theorem dX1_commutes_80 : decode cX1_commutes 80 = .ok (.aload_n 0, 1) := dk_42 (dk_at dksX1_commutes_3 12 rfl rfl)
theorem dX1_commutes_81 : decode cX1_commutes 81 = .ok (.getfield 154, 3) := dk_180 0 154 (dk_at dksX1_commutes_3 13 rfl rfl)
theorem dX1_commutes_84 : decode cX1_commutes 84 = .ok (.invokevirtual 285, 3) := dk_182 1 29 (dk_at dksX1_commutes_3 16 rfl rfl)
theorem dX1_commutes_87 : decode cX1_commutes 87 = .ok (.aload_n 0, 1) := dk_42 (dk_at dksX1_commutes_3 19 rfl rfl)
theorem dX1_commutes_88 : decode cX1_commutes 88 = .ok (.getfield 180, 3) := dk_180 0 180 (dk_at dksX1_commutes_3 20 rfl rfl)
theorem dX1_commutes_91 : decode cX1_commutes 91 = .ok (.iconst 0, 1) := dk_3 (dk_at dksX1_commutes_3 23 rfl rfl)
theorem dX1_commutes_92 : decode cX1_commutes 92 = .ok (.laload, 1) := dk_47 (dk_at dksX1_commutes_4 0 rfl rfl)
theorem dX1_commutes_93 : decode cX1_commutes 93 = .ok (.aload_n 0, 1) := dk_42 (dk_at dksX1_commutes_4 1 rfl rfl)
theorem dX1_commutes_94 : decode cX1_commutes 94 = .ok (.getfield 180, 3) := dk_180 0 180 (dk_at dksX1_commutes_4 2 rfl rfl)
theorem dX1_commutes_97 : decode cX1_commutes 97 = .ok (.iconst 2, 1) := dk_5 (dk_at dksX1_commutes_4 5 rfl rfl)
theorem dX1_commutes_98 : decode cX1_commutes 98 = .ok (.laload, 1) := dk_47 (dk_at dksX1_commutes_4 6 rfl rfl)
theorem dX1_commutes_99 : decode cX1_commutes 99 = .ok (.lcmp, 1) := dk_148 (dk_at dksX1_commutes_4 7 rfl rfl)
theorem dX1_commutes_100 : decode cX1_commutes 100 = .ok (.ifCond .ne 23, 3) := dk_154 0 23 (dk_at dksX1_commutes_4 8 rfl rfl)
theorem dX1_commutes_103 : decode cX1_commutes 103 = .ok (.aload_n 0, 1) := dk_42 (dk_at dksX1_commutes_4 11 rfl rfl)
theorem dX1_commutes_104 : decode cX1_commutes 104 = .ok (.getfield 180, 3) := dk_180 0 180 (dk_at dksX1_commutes_4 12 rfl rfl)
theorem dX1_commutes_107 : decode cX1_commutes 107 = .ok (.iconst 1, 1) := dk_4 (dk_at dksX1_commutes_4 15 rfl rfl)
theorem dX1_commutes_108 : decode cX1_commutes 108 = .ok (.laload, 1) := dk_47 (dk_at dksX1_commutes_4 16 rfl rfl)
theorem dX1_commutes_109 : decode cX1_commutes 109 = .ok (.aload_n 0, 1) := dk_42 (dk_at dksX1_commutes_4 17 rfl rfl)
theorem dX1_commutes_110 : decode cX1_commutes 110 = .ok (.getfield 180, 3) := dk_180 0 180 (dk_at dksX1_commutes_4 18 rfl rfl)
theorem dX1_commutes_113 : decode cX1_commutes 113 = .ok (.iconst 3, 1) := dk_6 (dk_at dksX1_commutes_4 21 rfl rfl)
theorem dX1_commutes_114 : decode cX1_commutes 114 = .ok (.laload, 1) := dk_47 (dk_at dksX1_commutes_4 22 rfl rfl)
theorem dX1_commutes_115 : decode cX1_commutes 115 = .ok (.lcmp, 1) := dk_148 (dk_at dksX1_commutes_4 23 rfl rfl)
theorem dX1_commutes_116 : decode cX1_commutes 116 = .ok (.ifCond .ne 7, 3) := dk_154 0 7 (dk_at dksX1_commutes_5 0 rfl rfl)
theorem dX1_commutes_119 : decode cX1_commutes 119 = .ok (.iconst 1, 1) := dk_4 (dk_at dksX1_commutes_5 3 rfl rfl)
theorem dX1_commutes_120 : decode cX1_commutes 120 = .ok (.goto 4, 3) := dk_167 0 4 (dk_at dksX1_commutes_5 4 rfl rfl)
theorem dX1_commutes_123 : decode cX1_commutes 123 = .ok (.iconst 0, 1) := dk_3 (dk_at dksX1_commutes_5 7 rfl rfl)
theorem dX1_commutes_124 : decode cX1_commutes 124 = .ok (.ireturn, 1) := dk_172 (dk_at dksX1_commutes_5 8 rfl rfl)
def dkwX1_isItem_0 : List UInt8 := [26, 133, 9, 20, 0, 3, 184, 0, 5, 172]
abbrev dktX1_isItem_0 : List UInt8 := dkwX1_isItem_0 ++ []
theorem dksX1_isItem_0 : cX1_isItem.data.toList.drop 0 = dktX1_isItem_0 := by decide +kernel
theorem dX1_isItem_0 : decode cX1_isItem 0 = .ok (.iload_n 0, 1) := dk_26 (dk_at dksX1_isItem_0 0 rfl rfl)
theorem dX1_isItem_1 : decode cX1_isItem 1 = .ok (.i2l, 1) := dk_133 (dk_at dksX1_isItem_0 1 rfl rfl)
theorem dX1_isItem_2 : decode cX1_isItem 2 = .ok (.lconst 0, 1) := dk_9 (dk_at dksX1_isItem_0 2 rfl rfl)
theorem dX1_isItem_3 : decode cX1_isItem 3 = .ok (.ldc2_w 3, 3) := dk_20 0 3 (dk_at dksX1_isItem_0 3 rfl rfl)
theorem dX1_isItem_6 : decode cX1_isItem 6 = .ok (.invokestatic 5, 3) := dk_184 0 5 (dk_at dksX1_isItem_0 6 rfl rfl)
theorem dX1_isItem_9 : decode cX1_isItem 9 = .ok (.ireturn, 1) := dk_172 (dk_at dksX1_isItem_0 9 rfl rfl)
def dkwX1_tellsPair_0 : List UInt8 := [42, 43, 180, 0, 23, 182, 0, 202, 42, 43, 180, 0, 29, 182, 0, 202, 177]
abbrev dktX1_tellsPair_0 : List UInt8 := dkwX1_tellsPair_0 ++ []
theorem dksX1_tellsPair_0 : cX1_tellsPair.data.toList.drop 0 = dktX1_tellsPair_0 := by decide +kernel
theorem dX1_tellsPair_0 : decode cX1_tellsPair 0 = .ok (.aload_n 0, 1) := dk_42 (dk_at dksX1_tellsPair_0 0 rfl rfl)
theorem dX1_tellsPair_1 : decode cX1_tellsPair 1 = .ok (.aload_n 1, 1) := dk_43 (dk_at dksX1_tellsPair_0 1 rfl rfl)
theorem dX1_tellsPair_2 : decode cX1_tellsPair 2 = .ok (.getfield 23, 3) := dk_180 0 23 (dk_at dksX1_tellsPair_0 2 rfl rfl)
theorem dX1_tellsPair_5 : decode cX1_tellsPair 5 = .ok (.invokevirtual 202, 3) := dk_182 0 202 (dk_at dksX1_tellsPair_0 5 rfl rfl)
theorem dX1_tellsPair_8 : decode cX1_tellsPair 8 = .ok (.aload_n 0, 1) := dk_42 (dk_at dksX1_tellsPair_0 8 rfl rfl)
theorem dX1_tellsPair_9 : decode cX1_tellsPair 9 = .ok (.aload_n 1, 1) := dk_43 (dk_at dksX1_tellsPair_0 9 rfl rfl)
theorem dX1_tellsPair_10 : decode cX1_tellsPair 10 = .ok (.getfield 29, 3) := dk_180 0 29 (dk_at dksX1_tellsPair_0 10 rfl rfl)
theorem dX1_tellsPair_13 : decode cX1_tellsPair 13 = .ok (.invokevirtual 202, 3) := dk_182 0 202 (dk_at dksX1_tellsPair_0 13 rfl rfl)
theorem dX1_tellsPair_16 : decode cX1_tellsPair 16 = .ok (.return_, 1) := dk_177 (dk_at dksX1_tellsPair_0 16 rfl rfl)
def dkwX1_powers_6 : List UInt8 := [132, 4, 255, 167, 255, 198, 42, 3, 181, 0, 199, 42, 42, 180, 0, 154, 182, 1, 29, 29, 172]
abbrev dktX1_powers_6 : List UInt8 := dkwX1_powers_6 ++ []
def dkwX1_powers_5 : List UInt8 := [167, 0, 22, 42, 42, 180, 0, 154, 42, 180, 0, 154, 42, 180, 0, 147, 182, 1, 26, 132, 3, 1]
abbrev dktX1_powers_5 : List UInt8 := dkwX1_powers_5 ++ dktX1_powers_6
def dkwX1_powers_4 : List UInt8 := [180, 0, 154, 42, 180, 0, 154, 182, 1, 26, 132, 3, 1, 28, 21, 4, 122, 4, 126, 154, 0, 6]
abbrev dktX1_powers_4 : List UInt8 := dkwX1_powers_4 ++ dktX1_powers_5
def dkwX1_powers_3 : List UInt8 := [4, 28, 184, 0, 71, 184, 1, 38, 100, 54, 4, 21, 4, 155, 0, 59, 42, 42, 180, 0, 154, 42]
abbrev dktX1_powers_3 : List UInt8 := dkwX1_powers_3 ++ dktX1_powers_4
def dkwX1_powers_2 : List UInt8 := [180, 0, 154, 42, 180, 0, 147, 180, 0, 23, 42, 180, 0, 147, 180, 0, 29, 182, 0, 13, 3, 62, 16, 30]
abbrev dktX1_powers_2 : List UInt8 := dkwX1_powers_2 ++ dktX1_powers_3
def dkwX1_powers_1 : List UInt8 := [180, 0, 147, 27, 182, 1, 23, 28, 154, 0, 14, 42, 42, 180, 0, 154, 182, 1, 35, 167, 0, 24, 42]
abbrev dktX1_powers_1 : List UInt8 := dkwX1_powers_1 ++ dktX1_powers_2
def dkwX1_powers_0 : List UInt8 := [27, 184, 1, 19, 153, 0, 15, 28, 133, 9, 20, 1, 33, 184, 0, 5, 154, 0, 5, 2, 172, 42, 42]
abbrev dktX1_powers_0 : List UInt8 := dkwX1_powers_0 ++ dktX1_powers_1
theorem dksX1_powers_0 : cX1_powers.data.toList.drop 0 = dktX1_powers_0 := by decide +kernel
theorem dksX1_powers_1 : cX1_powers.data.toList.drop 23 = dktX1_powers_1 := dk_seg dksX1_powers_0 23 rfl rfl
theorem dksX1_powers_2 : cX1_powers.data.toList.drop 46 = dktX1_powers_2 := dk_seg dksX1_powers_1 23 rfl rfl
theorem dksX1_powers_3 : cX1_powers.data.toList.drop 70 = dktX1_powers_3 := dk_seg dksX1_powers_2 24 rfl rfl
theorem dksX1_powers_4 : cX1_powers.data.toList.drop 92 = dktX1_powers_4 := dk_seg dksX1_powers_3 22 rfl rfl
theorem dksX1_powers_5 : cX1_powers.data.toList.drop 114 = dktX1_powers_5 := dk_seg dksX1_powers_4 22 rfl rfl
theorem dksX1_powers_6 : cX1_powers.data.toList.drop 136 = dktX1_powers_6 := dk_seg dksX1_powers_5 22 rfl rfl
theorem dX1_powers_0 : decode cX1_powers 0 = .ok (.iload_n 1, 1) := dk_27 (dk_at dksX1_powers_0 0 rfl rfl)
theorem dX1_powers_1 : decode cX1_powers 1 = .ok (.invokestatic 275, 3) := dk_184 1 19 (dk_at dksX1_powers_0 1 rfl rfl)
theorem dX1_powers_4 : decode cX1_powers 4 = .ok (.ifCond .eq 15, 3) := dk_153 0 15 (dk_at dksX1_powers_0 4 rfl rfl)
theorem dX1_powers_7 : decode cX1_powers 7 = .ok (.iload_n 2, 1) := dk_28 (dk_at dksX1_powers_0 7 rfl rfl)
theorem dX1_powers_8 : decode cX1_powers 8 = .ok (.i2l, 1) := dk_133 (dk_at dksX1_powers_0 8 rfl rfl)
theorem dX1_powers_9 : decode cX1_powers 9 = .ok (.lconst 0, 1) := dk_9 (dk_at dksX1_powers_0 9 rfl rfl)
theorem dX1_powers_10 : decode cX1_powers 10 = .ok (.ldc2_w 289, 3) := dk_20 1 33 (dk_at dksX1_powers_0 10 rfl rfl)
theorem dX1_powers_13 : decode cX1_powers 13 = .ok (.invokestatic 5, 3) := dk_184 0 5 (dk_at dksX1_powers_0 13 rfl rfl)
theorem dX1_powers_16 : decode cX1_powers 16 = .ok (.ifCond .ne 5, 3) := dk_154 0 5 (dk_at dksX1_powers_0 16 rfl rfl)
theorem dX1_powers_19 : decode cX1_powers 19 = .ok (.iconst (-1), 1) := dk_2 (dk_at dksX1_powers_0 19 rfl rfl)
theorem dX1_powers_20 : decode cX1_powers 20 = .ok (.ireturn, 1) := dk_172 (dk_at dksX1_powers_0 20 rfl rfl)
theorem dX1_powers_21 : decode cX1_powers 21 = .ok (.aload_n 0, 1) := dk_42 (dk_at dksX1_powers_0 21 rfl rfl)
theorem dX1_powers_22 : decode cX1_powers 22 = .ok (.aload_n 0, 1) := dk_42 (dk_at dksX1_powers_0 22 rfl rfl)
theorem dX1_powers_23 : decode cX1_powers 23 = .ok (.getfield 147, 3) := dk_180 0 147 (dk_at dksX1_powers_1 0 rfl rfl)
theorem dX1_powers_26 : decode cX1_powers 26 = .ok (.iload_n 1, 1) := dk_27 (dk_at dksX1_powers_1 3 rfl rfl)
theorem dX1_powers_27 : decode cX1_powers 27 = .ok (.invokevirtual 279, 3) := dk_182 1 23 (dk_at dksX1_powers_1 4 rfl rfl)
theorem dX1_powers_30 : decode cX1_powers 30 = .ok (.iload_n 2, 1) := dk_28 (dk_at dksX1_powers_1 7 rfl rfl)
theorem dX1_powers_31 : decode cX1_powers 31 = .ok (.ifCond .ne 14, 3) := dk_154 0 14 (dk_at dksX1_powers_1 8 rfl rfl)
theorem dX1_powers_34 : decode cX1_powers 34 = .ok (.aload_n 0, 1) := dk_42 (dk_at dksX1_powers_1 11 rfl rfl)
theorem dX1_powers_35 : decode cX1_powers 35 = .ok (.aload_n 0, 1) := dk_42 (dk_at dksX1_powers_1 12 rfl rfl)
theorem dX1_powers_36 : decode cX1_powers 36 = .ok (.getfield 154, 3) := dk_180 0 154 (dk_at dksX1_powers_1 13 rfl rfl)
theorem dX1_powers_39 : decode cX1_powers 39 = .ok (.invokevirtual 291, 3) := dk_182 1 35 (dk_at dksX1_powers_1 16 rfl rfl)
theorem dX1_powers_42 : decode cX1_powers 42 = .ok (.goto 24, 3) := dk_167 0 24 (dk_at dksX1_powers_1 19 rfl rfl)
theorem dX1_powers_45 : decode cX1_powers 45 = .ok (.aload_n 0, 1) := dk_42 (dk_at dksX1_powers_1 22 rfl rfl)
theorem dX1_powers_46 : decode cX1_powers 46 = .ok (.getfield 154, 3) := dk_180 0 154 (dk_at dksX1_powers_2 0 rfl rfl)
theorem dX1_powers_49 : decode cX1_powers 49 = .ok (.aload_n 0, 1) := dk_42 (dk_at dksX1_powers_2 3 rfl rfl)
theorem dX1_powers_50 : decode cX1_powers 50 = .ok (.getfield 147, 3) := dk_180 0 147 (dk_at dksX1_powers_2 4 rfl rfl)
theorem dX1_powers_53 : decode cX1_powers 53 = .ok (.getfield 23, 3) := dk_180 0 23 (dk_at dksX1_powers_2 7 rfl rfl)
theorem dX1_powers_56 : decode cX1_powers 56 = .ok (.aload_n 0, 1) := dk_42 (dk_at dksX1_powers_2 10 rfl rfl)
theorem dX1_powers_57 : decode cX1_powers 57 = .ok (.getfield 147, 3) := dk_180 0 147 (dk_at dksX1_powers_2 11 rfl rfl)
theorem dX1_powers_60 : decode cX1_powers 60 = .ok (.getfield 29, 3) := dk_180 0 29 (dk_at dksX1_powers_2 14 rfl rfl)
theorem dX1_powers_63 : decode cX1_powers 63 = .ok (.invokevirtual 13, 3) := dk_182 0 13 (dk_at dksX1_powers_2 17 rfl rfl)
theorem dX1_powers_66 : decode cX1_powers 66 = .ok (.iconst 0, 1) := dk_3 (dk_at dksX1_powers_2 20 rfl rfl)
theorem dX1_powers_67 : decode cX1_powers 67 = .ok (.istore_n 3, 1) := dk_62 (dk_at dksX1_powers_2 21 rfl rfl)
theorem dX1_powers_68 : decode cX1_powers 68 = .ok (.bipush 30, 2) := dk_16 30 (dk_at dksX1_powers_2 22 rfl rfl)
theorem dX1_powers_70 : decode cX1_powers 70 = .ok (.iconst 1, 1) := dk_4 (dk_at dksX1_powers_3 0 rfl rfl)
theorem dX1_powers_71 : decode cX1_powers 71 = .ok (.iload_n 2, 1) := dk_28 (dk_at dksX1_powers_3 1 rfl rfl)
theorem dX1_powers_72 : decode cX1_powers 72 = .ok (.invokestatic 71, 3) := dk_184 0 71 (dk_at dksX1_powers_3 2 rfl rfl)
theorem dX1_powers_75 : decode cX1_powers 75 = .ok (.invokestatic 294, 3) := dk_184 1 38 (dk_at dksX1_powers_3 5 rfl rfl)
theorem dX1_powers_78 : decode cX1_powers 78 = .ok (.isub, 1) := dk_100 (dk_at dksX1_powers_3 8 rfl rfl)
theorem dX1_powers_79 : decode cX1_powers 79 = .ok (.istore 4, 2) := dk_54 4 (dk_at dksX1_powers_3 9 rfl rfl)
theorem dX1_powers_81 : decode cX1_powers 81 = .ok (.iload 4, 2) := dk_21 4 (dk_at dksX1_powers_3 11 rfl rfl)
theorem dX1_powers_83 : decode cX1_powers 83 = .ok (.ifCond .lt 59, 3) := dk_155 0 59 (dk_at dksX1_powers_3 13 rfl rfl)
theorem dX1_powers_86 : decode cX1_powers 86 = .ok (.aload_n 0, 1) := dk_42 (dk_at dksX1_powers_3 16 rfl rfl)
theorem dX1_powers_87 : decode cX1_powers 87 = .ok (.aload_n 0, 1) := dk_42 (dk_at dksX1_powers_3 17 rfl rfl)
theorem dX1_powers_88 : decode cX1_powers 88 = .ok (.getfield 154, 3) := dk_180 0 154 (dk_at dksX1_powers_3 18 rfl rfl)
theorem dX1_powers_91 : decode cX1_powers 91 = .ok (.aload_n 0, 1) := dk_42 (dk_at dksX1_powers_3 21 rfl rfl)
theorem dX1_powers_92 : decode cX1_powers 92 = .ok (.getfield 154, 3) := dk_180 0 154 (dk_at dksX1_powers_4 0 rfl rfl)
theorem dX1_powers_95 : decode cX1_powers 95 = .ok (.aload_n 0, 1) := dk_42 (dk_at dksX1_powers_4 3 rfl rfl)
theorem dX1_powers_96 : decode cX1_powers 96 = .ok (.getfield 154, 3) := dk_180 0 154 (dk_at dksX1_powers_4 4 rfl rfl)
theorem dX1_powers_99 : decode cX1_powers 99 = .ok (.invokevirtual 282, 3) := dk_182 1 26 (dk_at dksX1_powers_4 7 rfl rfl)
theorem dX1_powers_102 : decode cX1_powers 102 = .ok (.iinc 3 1, 3) := dk_132 3 1 (dk_at dksX1_powers_4 10 rfl rfl)
theorem dX1_powers_105 : decode cX1_powers 105 = .ok (.iload_n 2, 1) := dk_28 (dk_at dksX1_powers_4 13 rfl rfl)
theorem dX1_powers_106 : decode cX1_powers 106 = .ok (.iload 4, 2) := dk_21 4 (dk_at dksX1_powers_4 14 rfl rfl)
theorem dX1_powers_108 : decode cX1_powers 108 = .ok (.ishr, 1) := dk_122 (dk_at dksX1_powers_4 16 rfl rfl)
theorem dX1_powers_109 : decode cX1_powers 109 = .ok (.iconst 1, 1) := dk_4 (dk_at dksX1_powers_4 17 rfl rfl)
theorem dX1_powers_110 : decode cX1_powers 110 = .ok (.iand, 1) := dk_126 (dk_at dksX1_powers_4 18 rfl rfl)
theorem dX1_powers_111 : decode cX1_powers 111 = .ok (.ifCond .ne 6, 3) := dk_154 0 6 (dk_at dksX1_powers_4 19 rfl rfl)
theorem dX1_powers_114 : decode cX1_powers 114 = .ok (.goto 22, 3) := dk_167 0 22 (dk_at dksX1_powers_5 0 rfl rfl)
theorem dX1_powers_117 : decode cX1_powers 117 = .ok (.aload_n 0, 1) := dk_42 (dk_at dksX1_powers_5 3 rfl rfl)
theorem dX1_powers_118 : decode cX1_powers 118 = .ok (.aload_n 0, 1) := dk_42 (dk_at dksX1_powers_5 4 rfl rfl)
theorem dX1_powers_119 : decode cX1_powers 119 = .ok (.getfield 154, 3) := dk_180 0 154 (dk_at dksX1_powers_5 5 rfl rfl)
theorem dX1_powers_122 : decode cX1_powers 122 = .ok (.aload_n 0, 1) := dk_42 (dk_at dksX1_powers_5 8 rfl rfl)
theorem dX1_powers_123 : decode cX1_powers 123 = .ok (.getfield 154, 3) := dk_180 0 154 (dk_at dksX1_powers_5 9 rfl rfl)
theorem dX1_powers_126 : decode cX1_powers 126 = .ok (.aload_n 0, 1) := dk_42 (dk_at dksX1_powers_5 12 rfl rfl)
theorem dX1_powers_127 : decode cX1_powers 127 = .ok (.getfield 147, 3) := dk_180 0 147 (dk_at dksX1_powers_5 13 rfl rfl)
theorem dX1_powers_130 : decode cX1_powers 130 = .ok (.invokevirtual 282, 3) := dk_182 1 26 (dk_at dksX1_powers_5 16 rfl rfl)
theorem dX1_powers_133 : decode cX1_powers 133 = .ok (.iinc 3 1, 3) := dk_132 3 1 (dk_at dksX1_powers_5 19 rfl rfl)
theorem dX1_powers_136 : decode cX1_powers 136 = .ok (.iinc 4 (-1), 3) := dk_132 4 255 (dk_at dksX1_powers_6 0 rfl rfl)
theorem dX1_powers_139 : decode cX1_powers 139 = .ok (.goto (-58), 3) := dk_167 255 198 (dk_at dksX1_powers_6 3 rfl rfl)
theorem dX1_powers_142 : decode cX1_powers 142 = .ok (.aload_n 0, 1) := dk_42 (dk_at dksX1_powers_6 6 rfl rfl)
theorem dX1_powers_143 : decode cX1_powers 143 = .ok (.iconst 0, 1) := dk_3 (dk_at dksX1_powers_6 7 rfl rfl)
theorem dX1_powers_144 : decode cX1_powers 144 = .ok (.putfield 199, 3) := dk_181 0 199 (dk_at dksX1_powers_6 8 rfl rfl)
theorem dX1_powers_147 : decode cX1_powers 147 = .ok (.aload_n 0, 1) := dk_42 (dk_at dksX1_powers_6 11 rfl rfl)
theorem dX1_powers_148 : decode cX1_powers 148 = .ok (.aload_n 0, 1) := dk_42 (dk_at dksX1_powers_6 12 rfl rfl)
theorem dX1_powers_149 : decode cX1_powers 149 = .ok (.getfield 154, 3) := dk_180 0 154 (dk_at dksX1_powers_6 13 rfl rfl)
theorem dX1_powers_152 : decode cX1_powers 152 = .ok (.invokevirtual 285, 3) := dk_182 1 29 (dk_at dksX1_powers_6 16 rfl rfl)
theorem dX1_powers_155 : decode cX1_powers 155 = .ok (.iload_n 3, 1) := dk_29 (dk_at dksX1_powers_6 19 rfl rfl)
theorem dX1_powers_156 : decode cX1_powers 156 = .ok (.ireturn, 1) := dk_172 (dk_at dksX1_powers_6 20 rfl rfl)
def dkwX1_empty_4 : List UInt8 := [167, 0, 9, 43, 9, 9, 182, 0, 13, 177]
abbrev dktX1_empty_4 : List UInt8 := dkwX1_empty_4 ++ []
def dkwX1_empty_3 : List UInt8 := [20, 0, 111, 20, 0, 111, 182, 0, 13, 167, 0, 22, 43, 42, 180, 0, 113, 133, 9, 182, 0, 13]
abbrev dktX1_empty_3 : List UInt8 := dkwX1_empty_3 ++ dktX1_empty_4
def dkwX1_empty_2 : List UInt8 := [43, 20, 0, 109, 20, 0, 111, 182, 0, 13, 167, 0, 44, 43, 10, 9, 182, 0, 13, 167, 0, 35, 43]
abbrev dktX1_empty_2 : List UInt8 := dkwX1_empty_2 ++ dktX1_empty_3
def dkwX1_empty_1 : List UInt8 := [170, 0, 0, 0, 0, 0, 0, 92, 0, 0, 0, 1, 0, 0, 0, 7, 0, 0, 0, 44, 0, 0, 0, 92, 0, 0, 0, 57, 0, 0, 0, 92, 0, 0, 0, 92, 0, 0, 0, 66, 0, 0, 0, 79]
abbrev dktX1_empty_1 : List UInt8 := dkwX1_empty_1 ++ dktX1_empty_2
def dkwX1_empty_0 : List UInt8 := [42, 180, 0, 92]
abbrev dktX1_empty_0 : List UInt8 := dkwX1_empty_0 ++ dktX1_empty_1
theorem dksX1_empty_0 : cX1_empty.data.toList.drop 0 = dktX1_empty_0 := by decide +kernel
theorem dksX1_empty_1 : cX1_empty.data.toList.drop 4 = dktX1_empty_1 := dk_seg dksX1_empty_0 4 rfl rfl
theorem dksX1_empty_2 : cX1_empty.data.toList.drop 48 = dktX1_empty_2 := dk_seg dksX1_empty_1 44 rfl rfl
theorem dksX1_empty_3 : cX1_empty.data.toList.drop 71 = dktX1_empty_3 := dk_seg dksX1_empty_2 23 rfl rfl
theorem dksX1_empty_4 : cX1_empty.data.toList.drop 93 = dktX1_empty_4 := dk_seg dksX1_empty_3 22 rfl rfl
theorem dX1_empty_0 : decode cX1_empty 0 = .ok (.aload_n 0, 1) := dk_42 (dk_at dksX1_empty_0 0 rfl rfl)
theorem dX1_empty_1 : decode cX1_empty 1 = .ok (.getfield 92, 3) := dk_180 0 92 (dk_at dksX1_empty_0 1 rfl rfl)
theorem dX1_empty_4 : decode cX1_empty 4 = .ok (.tableswitch 92 1 7 #[44, 92, 57, 92, 92, 66, 79], 44) := by decide +kernel
theorem dX1_empty_48 : decode cX1_empty 48 = .ok (.aload_n 1, 1) := dk_43 (dk_at dksX1_empty_2 0 rfl rfl)
theorem dX1_empty_49 : decode cX1_empty 49 = .ok (.ldc2_w 109, 3) := dk_20 0 109 (dk_at dksX1_empty_2 1 rfl rfl)
theorem dX1_empty_52 : decode cX1_empty 52 = .ok (.ldc2_w 111, 3) := dk_20 0 111 (dk_at dksX1_empty_2 4 rfl rfl)
theorem dX1_empty_55 : decode cX1_empty 55 = .ok (.invokevirtual 13, 3) := dk_182 0 13 (dk_at dksX1_empty_2 7 rfl rfl)
theorem dX1_empty_58 : decode cX1_empty 58 = .ok (.goto 44, 3) := dk_167 0 44 (dk_at dksX1_empty_2 10 rfl rfl)
theorem dX1_empty_61 : decode cX1_empty 61 = .ok (.aload_n 1, 1) := dk_43 (dk_at dksX1_empty_2 13 rfl rfl)
theorem dX1_empty_62 : decode cX1_empty 62 = .ok (.lconst 1, 1) := dk_10 (dk_at dksX1_empty_2 14 rfl rfl)
theorem dX1_empty_63 : decode cX1_empty 63 = .ok (.lconst 0, 1) := dk_9 (dk_at dksX1_empty_2 15 rfl rfl)
theorem dX1_empty_64 : decode cX1_empty 64 = .ok (.invokevirtual 13, 3) := dk_182 0 13 (dk_at dksX1_empty_2 16 rfl rfl)
theorem dX1_empty_67 : decode cX1_empty 67 = .ok (.goto 35, 3) := dk_167 0 35 (dk_at dksX1_empty_2 19 rfl rfl)
theorem dX1_empty_70 : decode cX1_empty 70 = .ok (.aload_n 1, 1) := dk_43 (dk_at dksX1_empty_2 22 rfl rfl)
theorem dX1_empty_71 : decode cX1_empty 71 = .ok (.ldc2_w 111, 3) := dk_20 0 111 (dk_at dksX1_empty_3 0 rfl rfl)
theorem dX1_empty_74 : decode cX1_empty 74 = .ok (.ldc2_w 111, 3) := dk_20 0 111 (dk_at dksX1_empty_3 3 rfl rfl)
theorem dX1_empty_77 : decode cX1_empty 77 = .ok (.invokevirtual 13, 3) := dk_182 0 13 (dk_at dksX1_empty_3 6 rfl rfl)
theorem dX1_empty_80 : decode cX1_empty 80 = .ok (.goto 22, 3) := dk_167 0 22 (dk_at dksX1_empty_3 9 rfl rfl)
theorem dX1_empty_83 : decode cX1_empty 83 = .ok (.aload_n 1, 1) := dk_43 (dk_at dksX1_empty_3 12 rfl rfl)
theorem dX1_empty_84 : decode cX1_empty 84 = .ok (.aload_n 0, 1) := dk_42 (dk_at dksX1_empty_3 13 rfl rfl)
theorem dX1_empty_85 : decode cX1_empty 85 = .ok (.getfield 113, 3) := dk_180 0 113 (dk_at dksX1_empty_3 14 rfl rfl)
theorem dX1_empty_88 : decode cX1_empty 88 = .ok (.i2l, 1) := dk_133 (dk_at dksX1_empty_3 17 rfl rfl)
theorem dX1_empty_89 : decode cX1_empty 89 = .ok (.lconst 0, 1) := dk_9 (dk_at dksX1_empty_3 18 rfl rfl)
theorem dX1_empty_90 : decode cX1_empty 90 = .ok (.invokevirtual 13, 3) := dk_182 0 13 (dk_at dksX1_empty_3 19 rfl rfl)
theorem dX1_empty_93 : decode cX1_empty 93 = .ok (.goto 9, 3) := dk_167 0 9 (dk_at dksX1_empty_4 0 rfl rfl)
theorem dX1_empty_96 : decode cX1_empty 96 = .ok (.aload_n 1, 1) := dk_43 (dk_at dksX1_empty_4 3 rfl rfl)
theorem dX1_empty_97 : decode cX1_empty 97 = .ok (.lconst 0, 1) := dk_9 (dk_at dksX1_empty_4 4 rfl rfl)
theorem dX1_empty_98 : decode cX1_empty 98 = .ok (.lconst 0, 1) := dk_9 (dk_at dksX1_empty_4 5 rfl rfl)
theorem dX1_empty_99 : decode cX1_empty 99 = .ok (.invokevirtual 13, 3) := dk_182 0 13 (dk_at dksX1_empty_4 6 rfl rfl)
theorem dX1_empty_102 : decode cX1_empty 102 = .ok (.return_, 1) := dk_177 (dk_at dksX1_empty_4 9 rfl rfl)
def dkwX1_order_7 : List UInt8 := [132, 2, 1, 167, 255, 133, 16, 254, 172]
abbrev dktX1_order_7 : List UInt8 := dkwX1_order_7 ++ []
def dkwX1_order_6 : List UInt8 := [180, 0, 154, 180, 0, 29, 80, 42, 42, 180, 0, 154, 42, 180, 0, 154, 42, 180, 0, 147, 182, 1, 26]
abbrev dktX1_order_6 : List UInt8 := dkwX1_order_6 ++ dktX1_order_7
def dkwX1_order_5 : List UInt8 := [42, 180, 0, 184, 28, 4, 100, 42, 180, 0, 154, 180, 0, 23, 80, 42, 180, 0, 187, 28, 4, 100, 42]
abbrev dktX1_order_5 : List UInt8 := dkwX1_order_5 ++ dktX1_order_6
def dkwX1_order_4 : List UInt8 := [167, 0, 18, 42, 3, 181, 0, 199, 42, 29, 4, 96, 133, 182, 0, 202, 28, 172, 132, 3, 1, 167, 255, 194]
abbrev dktX1_order_4 : List UInt8 := dkwX1_order_4 ++ dktX1_order_5
def dkwX1_order_3 : List UInt8 := [180, 0, 23, 148, 154, 0, 38, 42, 180, 0, 187, 29, 47, 42, 180, 0, 154, 180, 0, 29, 148, 153, 0, 6]
abbrev dktX1_order_3 : List UInt8 := dkwX1_order_3 ++ dktX1_order_4
def dkwX1_order_2 : List UInt8 := [163, 0, 122, 3, 62, 29, 28, 4, 100, 162, 0, 61, 42, 180, 0, 184, 29, 47, 42, 180, 0, 154]
abbrev dktX1_order_2 : List UInt8 := dkwX1_order_2 ++ dktX1_order_3
def dkwX1_order_1 : List UInt8 := [180, 0, 147, 180, 0, 23, 42, 180, 0, 147, 180, 0, 29, 182, 0, 13, 4, 61, 28, 17, 0, 128]
abbrev dktX1_order_1 : List UInt8 := dkwX1_order_1 ++ dktX1_order_2
def dkwX1_order_0 : List UInt8 := [27, 184, 1, 19, 154, 0, 5, 2, 172, 42, 42, 180, 0, 147, 27, 182, 1, 23, 42, 180, 0, 154, 42]
abbrev dktX1_order_0 : List UInt8 := dkwX1_order_0 ++ dktX1_order_1
theorem dksX1_order_0 : cX1_order.data.toList.drop 0 = dktX1_order_0 := by decide +kernel
theorem dksX1_order_1 : cX1_order.data.toList.drop 23 = dktX1_order_1 := dk_seg dksX1_order_0 23 rfl rfl
theorem dksX1_order_2 : cX1_order.data.toList.drop 45 = dktX1_order_2 := dk_seg dksX1_order_1 22 rfl rfl
theorem dksX1_order_3 : cX1_order.data.toList.drop 67 = dktX1_order_3 := dk_seg dksX1_order_2 22 rfl rfl
theorem dksX1_order_4 : cX1_order.data.toList.drop 91 = dktX1_order_4 := dk_seg dksX1_order_3 24 rfl rfl
theorem dksX1_order_5 : cX1_order.data.toList.drop 115 = dktX1_order_5 := dk_seg dksX1_order_4 24 rfl rfl
theorem dksX1_order_6 : cX1_order.data.toList.drop 138 = dktX1_order_6 := dk_seg dksX1_order_5 23 rfl rfl
theorem dksX1_order_7 : cX1_order.data.toList.drop 161 = dktX1_order_7 := dk_seg dksX1_order_6 23 rfl rfl
theorem dX1_order_0 : decode cX1_order 0 = .ok (.iload_n 1, 1) := dk_27 (dk_at dksX1_order_0 0 rfl rfl)
theorem dX1_order_1 : decode cX1_order 1 = .ok (.invokestatic 275, 3) := dk_184 1 19 (dk_at dksX1_order_0 1 rfl rfl)
theorem dX1_order_4 : decode cX1_order 4 = .ok (.ifCond .ne 5, 3) := dk_154 0 5 (dk_at dksX1_order_0 4 rfl rfl)
theorem dX1_order_7 : decode cX1_order 7 = .ok (.iconst (-1), 1) := dk_2 (dk_at dksX1_order_0 7 rfl rfl)
theorem dX1_order_8 : decode cX1_order 8 = .ok (.ireturn, 1) := dk_172 (dk_at dksX1_order_0 8 rfl rfl)
theorem dX1_order_9 : decode cX1_order 9 = .ok (.aload_n 0, 1) := dk_42 (dk_at dksX1_order_0 9 rfl rfl)
theorem dX1_order_10 : decode cX1_order 10 = .ok (.aload_n 0, 1) := dk_42 (dk_at dksX1_order_0 10 rfl rfl)
theorem dX1_order_11 : decode cX1_order 11 = .ok (.getfield 147, 3) := dk_180 0 147 (dk_at dksX1_order_0 11 rfl rfl)
theorem dX1_order_14 : decode cX1_order 14 = .ok (.iload_n 1, 1) := dk_27 (dk_at dksX1_order_0 14 rfl rfl)
theorem dX1_order_15 : decode cX1_order 15 = .ok (.invokevirtual 279, 3) := dk_182 1 23 (dk_at dksX1_order_0 15 rfl rfl)
theorem dX1_order_18 : decode cX1_order 18 = .ok (.aload_n 0, 1) := dk_42 (dk_at dksX1_order_0 18 rfl rfl)
theorem dX1_order_19 : decode cX1_order 19 = .ok (.getfield 154, 3) := dk_180 0 154 (dk_at dksX1_order_0 19 rfl rfl)
theorem dX1_order_22 : decode cX1_order 22 = .ok (.aload_n 0, 1) := dk_42 (dk_at dksX1_order_0 22 rfl rfl)
theorem dX1_order_23 : decode cX1_order 23 = .ok (.getfield 147, 3) := dk_180 0 147 (dk_at dksX1_order_1 0 rfl rfl)
theorem dX1_order_26 : decode cX1_order 26 = .ok (.getfield 23, 3) := dk_180 0 23 (dk_at dksX1_order_1 3 rfl rfl)
theorem dX1_order_29 : decode cX1_order 29 = .ok (.aload_n 0, 1) := dk_42 (dk_at dksX1_order_1 6 rfl rfl)
theorem dX1_order_30 : decode cX1_order 30 = .ok (.getfield 147, 3) := dk_180 0 147 (dk_at dksX1_order_1 7 rfl rfl)
theorem dX1_order_33 : decode cX1_order 33 = .ok (.getfield 29, 3) := dk_180 0 29 (dk_at dksX1_order_1 10 rfl rfl)
theorem dX1_order_36 : decode cX1_order 36 = .ok (.invokevirtual 13, 3) := dk_182 0 13 (dk_at dksX1_order_1 13 rfl rfl)
theorem dX1_order_39 : decode cX1_order 39 = .ok (.iconst 1, 1) := dk_4 (dk_at dksX1_order_1 16 rfl rfl)
theorem dX1_order_40 : decode cX1_order 40 = .ok (.istore_n 2, 1) := dk_61 (dk_at dksX1_order_1 17 rfl rfl)
theorem dX1_order_41 : decode cX1_order 41 = .ok (.iload_n 2, 1) := dk_28 (dk_at dksX1_order_1 18 rfl rfl)
theorem dX1_order_42 : decode cX1_order 42 = .ok (.sipush 128, 3) := dk_17 0 128 (dk_at dksX1_order_1 19 rfl rfl)
theorem dX1_order_45 : decode cX1_order 45 = .ok (.if_icmp .gt 122, 3) := dk_163 0 122 (dk_at dksX1_order_2 0 rfl rfl)
theorem dX1_order_48 : decode cX1_order 48 = .ok (.iconst 0, 1) := dk_3 (dk_at dksX1_order_2 3 rfl rfl)
theorem dX1_order_49 : decode cX1_order 49 = .ok (.istore_n 3, 1) := dk_62 (dk_at dksX1_order_2 4 rfl rfl)
theorem dX1_order_50 : decode cX1_order 50 = .ok (.iload_n 3, 1) := dk_29 (dk_at dksX1_order_2 5 rfl rfl)
theorem dX1_order_51 : decode cX1_order 51 = .ok (.iload_n 2, 1) := dk_28 (dk_at dksX1_order_2 6 rfl rfl)
theorem dX1_order_52 : decode cX1_order 52 = .ok (.iconst 1, 1) := dk_4 (dk_at dksX1_order_2 7 rfl rfl)
theorem dX1_order_53 : decode cX1_order 53 = .ok (.isub, 1) := dk_100 (dk_at dksX1_order_2 8 rfl rfl)
theorem dX1_order_54 : decode cX1_order 54 = .ok (.if_icmp .ge 61, 3) := dk_162 0 61 (dk_at dksX1_order_2 9 rfl rfl)
theorem dX1_order_57 : decode cX1_order 57 = .ok (.aload_n 0, 1) := dk_42 (dk_at dksX1_order_2 12 rfl rfl)
theorem dX1_order_58 : decode cX1_order 58 = .ok (.getfield 184, 3) := dk_180 0 184 (dk_at dksX1_order_2 13 rfl rfl)
theorem dX1_order_61 : decode cX1_order 61 = .ok (.iload_n 3, 1) := dk_29 (dk_at dksX1_order_2 16 rfl rfl)
theorem dX1_order_62 : decode cX1_order 62 = .ok (.laload, 1) := dk_47 (dk_at dksX1_order_2 17 rfl rfl)
theorem dX1_order_63 : decode cX1_order 63 = .ok (.aload_n 0, 1) := dk_42 (dk_at dksX1_order_2 18 rfl rfl)
theorem dX1_order_64 : decode cX1_order 64 = .ok (.getfield 154, 3) := dk_180 0 154 (dk_at dksX1_order_2 19 rfl rfl)
theorem dX1_order_67 : decode cX1_order 67 = .ok (.getfield 23, 3) := dk_180 0 23 (dk_at dksX1_order_3 0 rfl rfl)
theorem dX1_order_70 : decode cX1_order 70 = .ok (.lcmp, 1) := dk_148 (dk_at dksX1_order_3 3 rfl rfl)
theorem dX1_order_71 : decode cX1_order 71 = .ok (.ifCond .ne 38, 3) := dk_154 0 38 (dk_at dksX1_order_3 4 rfl rfl)
theorem dX1_order_74 : decode cX1_order 74 = .ok (.aload_n 0, 1) := dk_42 (dk_at dksX1_order_3 7 rfl rfl)
theorem dX1_order_75 : decode cX1_order 75 = .ok (.getfield 187, 3) := dk_180 0 187 (dk_at dksX1_order_3 8 rfl rfl)
theorem dX1_order_78 : decode cX1_order 78 = .ok (.iload_n 3, 1) := dk_29 (dk_at dksX1_order_3 11 rfl rfl)
theorem dX1_order_79 : decode cX1_order 79 = .ok (.laload, 1) := dk_47 (dk_at dksX1_order_3 12 rfl rfl)
theorem dX1_order_80 : decode cX1_order 80 = .ok (.aload_n 0, 1) := dk_42 (dk_at dksX1_order_3 13 rfl rfl)
theorem dX1_order_81 : decode cX1_order 81 = .ok (.getfield 154, 3) := dk_180 0 154 (dk_at dksX1_order_3 14 rfl rfl)
theorem dX1_order_84 : decode cX1_order 84 = .ok (.getfield 29, 3) := dk_180 0 29 (dk_at dksX1_order_3 17 rfl rfl)
theorem dX1_order_87 : decode cX1_order 87 = .ok (.lcmp, 1) := dk_148 (dk_at dksX1_order_3 20 rfl rfl)
theorem dX1_order_88 : decode cX1_order 88 = .ok (.ifCond .eq 6, 3) := dk_153 0 6 (dk_at dksX1_order_3 21 rfl rfl)
theorem dX1_order_91 : decode cX1_order 91 = .ok (.goto 18, 3) := dk_167 0 18 (dk_at dksX1_order_4 0 rfl rfl)
theorem dX1_order_94 : decode cX1_order 94 = .ok (.aload_n 0, 1) := dk_42 (dk_at dksX1_order_4 3 rfl rfl)
theorem dX1_order_95 : decode cX1_order 95 = .ok (.iconst 0, 1) := dk_3 (dk_at dksX1_order_4 4 rfl rfl)
theorem dX1_order_96 : decode cX1_order 96 = .ok (.putfield 199, 3) := dk_181 0 199 (dk_at dksX1_order_4 5 rfl rfl)
theorem dX1_order_99 : decode cX1_order 99 = .ok (.aload_n 0, 1) := dk_42 (dk_at dksX1_order_4 8 rfl rfl)
theorem dX1_order_100 : decode cX1_order 100 = .ok (.iload_n 3, 1) := dk_29 (dk_at dksX1_order_4 9 rfl rfl)
theorem dX1_order_101 : decode cX1_order 101 = .ok (.iconst 1, 1) := dk_4 (dk_at dksX1_order_4 10 rfl rfl)
theorem dX1_order_102 : decode cX1_order 102 = .ok (.iadd, 1) := dk_96 (dk_at dksX1_order_4 11 rfl rfl)
theorem dX1_order_103 : decode cX1_order 103 = .ok (.i2l, 1) := dk_133 (dk_at dksX1_order_4 12 rfl rfl)
theorem dX1_order_104 : decode cX1_order 104 = .ok (.invokevirtual 202, 3) := dk_182 0 202 (dk_at dksX1_order_4 13 rfl rfl)
theorem dX1_order_107 : decode cX1_order 107 = .ok (.iload_n 2, 1) := dk_28 (dk_at dksX1_order_4 16 rfl rfl)
theorem dX1_order_108 : decode cX1_order 108 = .ok (.ireturn, 1) := dk_172 (dk_at dksX1_order_4 17 rfl rfl)
theorem dX1_order_109 : decode cX1_order 109 = .ok (.iinc 3 1, 3) := dk_132 3 1 (dk_at dksX1_order_4 18 rfl rfl)
theorem dX1_order_112 : decode cX1_order 112 = .ok (.goto (-62), 3) := dk_167 255 194 (dk_at dksX1_order_4 21 rfl rfl)
theorem dX1_order_115 : decode cX1_order 115 = .ok (.aload_n 0, 1) := dk_42 (dk_at dksX1_order_5 0 rfl rfl)
theorem dX1_order_116 : decode cX1_order 116 = .ok (.getfield 184, 3) := dk_180 0 184 (dk_at dksX1_order_5 1 rfl rfl)
theorem dX1_order_119 : decode cX1_order 119 = .ok (.iload_n 2, 1) := dk_28 (dk_at dksX1_order_5 4 rfl rfl)
theorem dX1_order_120 : decode cX1_order 120 = .ok (.iconst 1, 1) := dk_4 (dk_at dksX1_order_5 5 rfl rfl)
theorem dX1_order_121 : decode cX1_order 121 = .ok (.isub, 1) := dk_100 (dk_at dksX1_order_5 6 rfl rfl)
theorem dX1_order_122 : decode cX1_order 122 = .ok (.aload_n 0, 1) := dk_42 (dk_at dksX1_order_5 7 rfl rfl)
theorem dX1_order_123 : decode cX1_order 123 = .ok (.getfield 154, 3) := dk_180 0 154 (dk_at dksX1_order_5 8 rfl rfl)
theorem dX1_order_126 : decode cX1_order 126 = .ok (.getfield 23, 3) := dk_180 0 23 (dk_at dksX1_order_5 11 rfl rfl)
theorem dX1_order_129 : decode cX1_order 129 = .ok (.lastore, 1) := dk_80 (dk_at dksX1_order_5 14 rfl rfl)
theorem dX1_order_130 : decode cX1_order 130 = .ok (.aload_n 0, 1) := dk_42 (dk_at dksX1_order_5 15 rfl rfl)
theorem dX1_order_131 : decode cX1_order 131 = .ok (.getfield 187, 3) := dk_180 0 187 (dk_at dksX1_order_5 16 rfl rfl)
theorem dX1_order_134 : decode cX1_order 134 = .ok (.iload_n 2, 1) := dk_28 (dk_at dksX1_order_5 19 rfl rfl)
theorem dX1_order_135 : decode cX1_order 135 = .ok (.iconst 1, 1) := dk_4 (dk_at dksX1_order_5 20 rfl rfl)
theorem dX1_order_136 : decode cX1_order 136 = .ok (.isub, 1) := dk_100 (dk_at dksX1_order_5 21 rfl rfl)
theorem dX1_order_137 : decode cX1_order 137 = .ok (.aload_n 0, 1) := dk_42 (dk_at dksX1_order_5 22 rfl rfl)
theorem dX1_order_138 : decode cX1_order 138 = .ok (.getfield 154, 3) := dk_180 0 154 (dk_at dksX1_order_6 0 rfl rfl)
theorem dX1_order_141 : decode cX1_order 141 = .ok (.getfield 29, 3) := dk_180 0 29 (dk_at dksX1_order_6 3 rfl rfl)
theorem dX1_order_144 : decode cX1_order 144 = .ok (.lastore, 1) := dk_80 (dk_at dksX1_order_6 6 rfl rfl)
theorem dX1_order_145 : decode cX1_order 145 = .ok (.aload_n 0, 1) := dk_42 (dk_at dksX1_order_6 7 rfl rfl)
theorem dX1_order_146 : decode cX1_order 146 = .ok (.aload_n 0, 1) := dk_42 (dk_at dksX1_order_6 8 rfl rfl)
theorem dX1_order_147 : decode cX1_order 147 = .ok (.getfield 154, 3) := dk_180 0 154 (dk_at dksX1_order_6 9 rfl rfl)
theorem dX1_order_150 : decode cX1_order 150 = .ok (.aload_n 0, 1) := dk_42 (dk_at dksX1_order_6 12 rfl rfl)
theorem dX1_order_151 : decode cX1_order 151 = .ok (.getfield 154, 3) := dk_180 0 154 (dk_at dksX1_order_6 13 rfl rfl)
theorem dX1_order_154 : decode cX1_order 154 = .ok (.aload_n 0, 1) := dk_42 (dk_at dksX1_order_6 16 rfl rfl)
theorem dX1_order_155 : decode cX1_order 155 = .ok (.getfield 147, 3) := dk_180 0 147 (dk_at dksX1_order_6 17 rfl rfl)
theorem dX1_order_158 : decode cX1_order 158 = .ok (.invokevirtual 282, 3) := dk_182 1 26 (dk_at dksX1_order_6 20 rfl rfl)
theorem dX1_order_161 : decode cX1_order 161 = .ok (.iinc 2 1, 3) := dk_132 2 1 (dk_at dksX1_order_7 0 rfl rfl)
theorem dX1_order_164 : decode cX1_order 164 = .ok (.goto (-123), 3) := dk_167 255 133 (dk_at dksX1_order_7 3 rfl rfl)
theorem dX1_order_167 : decode cX1_order 167 = .ok (.bipush (-2), 2) := dk_16 254 (dk_at dksX1_order_7 6 rfl rfl)
theorem dX1_order_169 : decode cX1_order 169 = .ok (.ireturn, 1) := dk_172 (dk_at dksX1_order_7 8 rfl rfl)
def dkwX1_undoes_5 : List UInt8 := [172]
abbrev dktX1_undoes_5 : List UInt8 := dkwX1_undoes_5 ++ []
def dkwX1_undoes_4 : List UInt8 := [182, 1, 26, 42, 180, 0, 154, 44, 182, 1, 41, 153, 0, 5, 29, 172, 132, 3, 1, 167, 255, 178, 16, 254]
abbrev dktX1_undoes_4 : List UInt8 := dkwX1_undoes_4 ++ dktX1_undoes_5
def dkwX1_undoes_3 : List UInt8 := [182, 1, 41, 154, 0, 6, 167, 0, 32, 42, 42, 180, 0, 154, 42, 180, 0, 151, 42, 180, 0, 147]
abbrev dktX1_undoes_3 : List UInt8 := dkwX1_undoes_3 ++ dktX1_undoes_4
def dkwX1_undoes_2 : List UInt8 := [182, 1, 23, 42, 42, 180, 0, 154, 42, 180, 0, 147, 42, 180, 0, 151, 182, 1, 26, 42, 180, 0, 154, 44]
abbrev dktX1_undoes_2 : List UInt8 := dkwX1_undoes_2 ++ dktX1_undoes_3
def dkwX1_undoes_1 : List UInt8 := [180, 0, 147, 27, 182, 1, 23, 3, 62, 29, 17, 39, 16, 162, 0, 77, 42, 42, 180, 0, 151, 29]
abbrev dktX1_undoes_1 : List UInt8 := dkwX1_undoes_1 ++ dktX1_undoes_2
def dkwX1_undoes_0 : List UInt8 := [27, 184, 1, 19, 154, 0, 5, 2, 172, 187, 0, 14, 89, 183, 0, 146, 77, 42, 44, 182, 1, 35, 42, 42]
abbrev dktX1_undoes_0 : List UInt8 := dkwX1_undoes_0 ++ dktX1_undoes_1
theorem dksX1_undoes_0 : cX1_undoes.data.toList.drop 0 = dktX1_undoes_0 := by decide +kernel
theorem dksX1_undoes_1 : cX1_undoes.data.toList.drop 24 = dktX1_undoes_1 := dk_seg dksX1_undoes_0 24 rfl rfl
theorem dksX1_undoes_2 : cX1_undoes.data.toList.drop 46 = dktX1_undoes_2 := dk_seg dksX1_undoes_1 22 rfl rfl
theorem dksX1_undoes_3 : cX1_undoes.data.toList.drop 70 = dktX1_undoes_3 := dk_seg dksX1_undoes_2 24 rfl rfl
theorem dksX1_undoes_4 : cX1_undoes.data.toList.drop 92 = dktX1_undoes_4 := dk_seg dksX1_undoes_3 22 rfl rfl
theorem dksX1_undoes_5 : cX1_undoes.data.toList.drop 116 = dktX1_undoes_5 := dk_seg dksX1_undoes_4 24 rfl rfl
theorem dX1_undoes_0 : decode cX1_undoes 0 = .ok (.iload_n 1, 1) := dk_27 (dk_at dksX1_undoes_0 0 rfl rfl)
theorem dX1_undoes_1 : decode cX1_undoes 1 = .ok (.invokestatic 275, 3) := dk_184 1 19 (dk_at dksX1_undoes_0 1 rfl rfl)
theorem dX1_undoes_4 : decode cX1_undoes 4 = .ok (.ifCond .ne 5, 3) := dk_154 0 5 (dk_at dksX1_undoes_0 4 rfl rfl)
theorem dX1_undoes_7 : decode cX1_undoes 7 = .ok (.iconst (-1), 1) := dk_2 (dk_at dksX1_undoes_0 7 rfl rfl)
theorem dX1_undoes_8 : decode cX1_undoes 8 = .ok (.ireturn, 1) := dk_172 (dk_at dksX1_undoes_0 8 rfl rfl)
theorem dX1_undoes_9 : decode cX1_undoes 9 = .ok (.new 14, 3) := dk_187 0 14 (dk_at dksX1_undoes_0 9 rfl rfl)
theorem dX1_undoes_12 : decode cX1_undoes 12 = .ok (.dup, 1) := dk_89 (dk_at dksX1_undoes_0 12 rfl rfl)
theorem dX1_undoes_13 : decode cX1_undoes 13 = .ok (.invokespecial 146, 3) := dk_183 0 146 (dk_at dksX1_undoes_0 13 rfl rfl)
theorem dX1_undoes_16 : decode cX1_undoes 16 = .ok (.astore_n 2, 1) := dk_77 (dk_at dksX1_undoes_0 16 rfl rfl)
theorem dX1_undoes_17 : decode cX1_undoes 17 = .ok (.aload_n 0, 1) := dk_42 (dk_at dksX1_undoes_0 17 rfl rfl)
theorem dX1_undoes_18 : decode cX1_undoes 18 = .ok (.aload_n 2, 1) := dk_44 (dk_at dksX1_undoes_0 18 rfl rfl)
theorem dX1_undoes_19 : decode cX1_undoes 19 = .ok (.invokevirtual 291, 3) := dk_182 1 35 (dk_at dksX1_undoes_0 19 rfl rfl)
theorem dX1_undoes_22 : decode cX1_undoes 22 = .ok (.aload_n 0, 1) := dk_42 (dk_at dksX1_undoes_0 22 rfl rfl)
theorem dX1_undoes_23 : decode cX1_undoes 23 = .ok (.aload_n 0, 1) := dk_42 (dk_at dksX1_undoes_0 23 rfl rfl)
theorem dX1_undoes_24 : decode cX1_undoes 24 = .ok (.getfield 147, 3) := dk_180 0 147 (dk_at dksX1_undoes_1 0 rfl rfl)
theorem dX1_undoes_27 : decode cX1_undoes 27 = .ok (.iload_n 1, 1) := dk_27 (dk_at dksX1_undoes_1 3 rfl rfl)
theorem dX1_undoes_28 : decode cX1_undoes 28 = .ok (.invokevirtual 279, 3) := dk_182 1 23 (dk_at dksX1_undoes_1 4 rfl rfl)
theorem dX1_undoes_31 : decode cX1_undoes 31 = .ok (.iconst 0, 1) := dk_3 (dk_at dksX1_undoes_1 7 rfl rfl)
theorem dX1_undoes_32 : decode cX1_undoes 32 = .ok (.istore_n 3, 1) := dk_62 (dk_at dksX1_undoes_1 8 rfl rfl)
theorem dX1_undoes_33 : decode cX1_undoes 33 = .ok (.iload_n 3, 1) := dk_29 (dk_at dksX1_undoes_1 9 rfl rfl)
theorem dX1_undoes_34 : decode cX1_undoes 34 = .ok (.sipush 10000, 3) := dk_17 39 16 (dk_at dksX1_undoes_1 10 rfl rfl)
theorem dX1_undoes_37 : decode cX1_undoes 37 = .ok (.if_icmp .ge 77, 3) := dk_162 0 77 (dk_at dksX1_undoes_1 13 rfl rfl)
theorem dX1_undoes_40 : decode cX1_undoes 40 = .ok (.aload_n 0, 1) := dk_42 (dk_at dksX1_undoes_1 16 rfl rfl)
theorem dX1_undoes_41 : decode cX1_undoes 41 = .ok (.aload_n 0, 1) := dk_42 (dk_at dksX1_undoes_1 17 rfl rfl)
theorem dX1_undoes_42 : decode cX1_undoes 42 = .ok (.getfield 151, 3) := dk_180 0 151 (dk_at dksX1_undoes_1 18 rfl rfl)
theorem dX1_undoes_45 : decode cX1_undoes 45 = .ok (.iload_n 3, 1) := dk_29 (dk_at dksX1_undoes_1 21 rfl rfl)
theorem dX1_undoes_46 : decode cX1_undoes 46 = .ok (.invokevirtual 279, 3) := dk_182 1 23 (dk_at dksX1_undoes_2 0 rfl rfl)
theorem dX1_undoes_49 : decode cX1_undoes 49 = .ok (.aload_n 0, 1) := dk_42 (dk_at dksX1_undoes_2 3 rfl rfl)
theorem dX1_undoes_50 : decode cX1_undoes 50 = .ok (.aload_n 0, 1) := dk_42 (dk_at dksX1_undoes_2 4 rfl rfl)
theorem dX1_undoes_51 : decode cX1_undoes 51 = .ok (.getfield 154, 3) := dk_180 0 154 (dk_at dksX1_undoes_2 5 rfl rfl)
theorem dX1_undoes_54 : decode cX1_undoes 54 = .ok (.aload_n 0, 1) := dk_42 (dk_at dksX1_undoes_2 8 rfl rfl)
theorem dX1_undoes_55 : decode cX1_undoes 55 = .ok (.getfield 147, 3) := dk_180 0 147 (dk_at dksX1_undoes_2 9 rfl rfl)
theorem dX1_undoes_58 : decode cX1_undoes 58 = .ok (.aload_n 0, 1) := dk_42 (dk_at dksX1_undoes_2 12 rfl rfl)
theorem dX1_undoes_59 : decode cX1_undoes 59 = .ok (.getfield 151, 3) := dk_180 0 151 (dk_at dksX1_undoes_2 13 rfl rfl)
theorem dX1_undoes_62 : decode cX1_undoes 62 = .ok (.invokevirtual 282, 3) := dk_182 1 26 (dk_at dksX1_undoes_2 16 rfl rfl)
theorem dX1_undoes_65 : decode cX1_undoes 65 = .ok (.aload_n 0, 1) := dk_42 (dk_at dksX1_undoes_2 19 rfl rfl)
theorem dX1_undoes_66 : decode cX1_undoes 66 = .ok (.getfield 154, 3) := dk_180 0 154 (dk_at dksX1_undoes_2 20 rfl rfl)
theorem dX1_undoes_69 : decode cX1_undoes 69 = .ok (.aload_n 2, 1) := dk_44 (dk_at dksX1_undoes_2 23 rfl rfl)
theorem dX1_undoes_70 : decode cX1_undoes 70 = .ok (.invokevirtual 297, 3) := dk_182 1 41 (dk_at dksX1_undoes_3 0 rfl rfl)
theorem dX1_undoes_73 : decode cX1_undoes 73 = .ok (.ifCond .ne 6, 3) := dk_154 0 6 (dk_at dksX1_undoes_3 3 rfl rfl)
theorem dX1_undoes_76 : decode cX1_undoes 76 = .ok (.goto 32, 3) := dk_167 0 32 (dk_at dksX1_undoes_3 6 rfl rfl)
theorem dX1_undoes_79 : decode cX1_undoes 79 = .ok (.aload_n 0, 1) := dk_42 (dk_at dksX1_undoes_3 9 rfl rfl)
theorem dX1_undoes_80 : decode cX1_undoes 80 = .ok (.aload_n 0, 1) := dk_42 (dk_at dksX1_undoes_3 10 rfl rfl)
theorem dX1_undoes_81 : decode cX1_undoes 81 = .ok (.getfield 154, 3) := dk_180 0 154 (dk_at dksX1_undoes_3 11 rfl rfl)
theorem dX1_undoes_84 : decode cX1_undoes 84 = .ok (.aload_n 0, 1) := dk_42 (dk_at dksX1_undoes_3 14 rfl rfl)
theorem dX1_undoes_85 : decode cX1_undoes 85 = .ok (.getfield 151, 3) := dk_180 0 151 (dk_at dksX1_undoes_3 15 rfl rfl)
theorem dX1_undoes_88 : decode cX1_undoes 88 = .ok (.aload_n 0, 1) := dk_42 (dk_at dksX1_undoes_3 18 rfl rfl)
theorem dX1_undoes_89 : decode cX1_undoes 89 = .ok (.getfield 147, 3) := dk_180 0 147 (dk_at dksX1_undoes_3 19 rfl rfl)
theorem dX1_undoes_92 : decode cX1_undoes 92 = .ok (.invokevirtual 282, 3) := dk_182 1 26 (dk_at dksX1_undoes_4 0 rfl rfl)
theorem dX1_undoes_95 : decode cX1_undoes 95 = .ok (.aload_n 0, 1) := dk_42 (dk_at dksX1_undoes_4 3 rfl rfl)
theorem dX1_undoes_96 : decode cX1_undoes 96 = .ok (.getfield 154, 3) := dk_180 0 154 (dk_at dksX1_undoes_4 4 rfl rfl)
theorem dX1_undoes_99 : decode cX1_undoes 99 = .ok (.aload_n 2, 1) := dk_44 (dk_at dksX1_undoes_4 7 rfl rfl)
theorem dX1_undoes_100 : decode cX1_undoes 100 = .ok (.invokevirtual 297, 3) := dk_182 1 41 (dk_at dksX1_undoes_4 8 rfl rfl)
theorem dX1_undoes_103 : decode cX1_undoes 103 = .ok (.ifCond .eq 5, 3) := dk_153 0 5 (dk_at dksX1_undoes_4 11 rfl rfl)
theorem dX1_undoes_106 : decode cX1_undoes 106 = .ok (.iload_n 3, 1) := dk_29 (dk_at dksX1_undoes_4 14 rfl rfl)
theorem dX1_undoes_107 : decode cX1_undoes 107 = .ok (.ireturn, 1) := dk_172 (dk_at dksX1_undoes_4 15 rfl rfl)
theorem dX1_undoes_108 : decode cX1_undoes 108 = .ok (.iinc 3 1, 3) := dk_132 3 1 (dk_at dksX1_undoes_4 16 rfl rfl)
theorem dX1_undoes_111 : decode cX1_undoes 111 = .ok (.goto (-78), 3) := dk_167 255 178 (dk_at dksX1_undoes_4 19 rfl rfl)
theorem dX1_undoes_114 : decode cX1_undoes 114 = .ok (.bipush (-2), 2) := dk_16 254 (dk_at dksX1_undoes_4 22 rfl rfl)
theorem dX1_undoes_116 : decode cX1_undoes 116 = .ok (.ireturn, 1) := dk_172 (dk_at dksX1_undoes_5 0 rfl rfl)
def dkwX1_puts_2 : List UInt8 := [16, 253, 172, 25, 4, 28, 29, 182, 1, 56, 25, 4, 182, 1, 54, 172]
abbrev dktX1_puts_2 : List UInt8 := dkwX1_puts_2 ++ []
def dkwX1_puts_1 : List UInt8 := [180, 0, 162, 27, 185, 1, 51, 2, 0, 192, 0, 157, 58, 4, 25, 4, 182, 1, 54, 16, 64, 160, 0, 6]
abbrev dktX1_puts_1 : List UInt8 := dkwX1_puts_1 ++ dktX1_puts_2
def dkwX1_puts_0 : List UInt8 := [27, 184, 1, 45, 153, 0, 17, 28, 184, 1, 48, 153, 0, 10, 29, 184, 1, 19, 154, 0, 5, 2, 172, 42]
abbrev dktX1_puts_0 : List UInt8 := dkwX1_puts_0 ++ dktX1_puts_1
theorem dksX1_puts_0 : cX1_puts.data.toList.drop 0 = dktX1_puts_0 := by decide +kernel
theorem dksX1_puts_1 : cX1_puts.data.toList.drop 24 = dktX1_puts_1 := dk_seg dksX1_puts_0 24 rfl rfl
theorem dksX1_puts_2 : cX1_puts.data.toList.drop 48 = dktX1_puts_2 := dk_seg dksX1_puts_1 24 rfl rfl
theorem dX1_puts_0 : decode cX1_puts 0 = .ok (.iload_n 1, 1) := dk_27 (dk_at dksX1_puts_0 0 rfl rfl)
theorem dX1_puts_1 : decode cX1_puts 1 = .ok (.invokestatic 301, 3) := dk_184 1 45 (dk_at dksX1_puts_0 1 rfl rfl)
theorem dX1_puts_4 : decode cX1_puts 4 = .ok (.ifCond .eq 17, 3) := dk_153 0 17 (dk_at dksX1_puts_0 4 rfl rfl)
theorem dX1_puts_7 : decode cX1_puts 7 = .ok (.iload_n 2, 1) := dk_28 (dk_at dksX1_puts_0 7 rfl rfl)
theorem dX1_puts_8 : decode cX1_puts 8 = .ok (.invokestatic 304, 3) := dk_184 1 48 (dk_at dksX1_puts_0 8 rfl rfl)
theorem dX1_puts_11 : decode cX1_puts 11 = .ok (.ifCond .eq 10, 3) := dk_153 0 10 (dk_at dksX1_puts_0 11 rfl rfl)
theorem dX1_puts_14 : decode cX1_puts 14 = .ok (.iload_n 3, 1) := dk_29 (dk_at dksX1_puts_0 14 rfl rfl)
theorem dX1_puts_15 : decode cX1_puts 15 = .ok (.invokestatic 275, 3) := dk_184 1 19 (dk_at dksX1_puts_0 15 rfl rfl)
theorem dX1_puts_18 : decode cX1_puts 18 = .ok (.ifCond .ne 5, 3) := dk_154 0 5 (dk_at dksX1_puts_0 18 rfl rfl)
theorem dX1_puts_21 : decode cX1_puts 21 = .ok (.iconst (-1), 1) := dk_2 (dk_at dksX1_puts_0 21 rfl rfl)
theorem dX1_puts_22 : decode cX1_puts 22 = .ok (.ireturn, 1) := dk_172 (dk_at dksX1_puts_0 22 rfl rfl)
theorem dX1_puts_23 : decode cX1_puts 23 = .ok (.aload_n 0, 1) := dk_42 (dk_at dksX1_puts_0 23 rfl rfl)
theorem dX1_puts_24 : decode cX1_puts 24 = .ok (.getfield 162, 3) := dk_180 0 162 (dk_at dksX1_puts_1 0 rfl rfl)
theorem dX1_puts_27 : decode cX1_puts 27 = .ok (.iload_n 1, 1) := dk_27 (dk_at dksX1_puts_1 3 rfl rfl)
theorem dX1_puts_28 : decode cX1_puts 28 = .ok (.invokeinterface 307 2, 5) := by decide +kernel
theorem dX1_puts_33 : decode cX1_puts 33 = .ok (.checkcast 157, 3) := dk_192 0 157 (dk_at dksX1_puts_1 9 rfl rfl)
theorem dX1_puts_36 : decode cX1_puts 36 = .ok (.astore 4, 2) := dk_58 4 (dk_at dksX1_puts_1 12 rfl rfl)
theorem dX1_puts_38 : decode cX1_puts 38 = .ok (.aload 4, 2) := dk_25 4 (dk_at dksX1_puts_1 14 rfl rfl)
theorem dX1_puts_40 : decode cX1_puts 40 = .ok (.invokevirtual 310, 3) := dk_182 1 54 (dk_at dksX1_puts_1 16 rfl rfl)
theorem dX1_puts_43 : decode cX1_puts 43 = .ok (.bipush 64, 2) := dk_16 64 (dk_at dksX1_puts_1 19 rfl rfl)
theorem dX1_puts_45 : decode cX1_puts 45 = .ok (.if_icmp .ne 6, 3) := dk_160 0 6 (dk_at dksX1_puts_1 21 rfl rfl)
theorem dX1_puts_48 : decode cX1_puts 48 = .ok (.bipush (-3), 2) := dk_16 253 (dk_at dksX1_puts_2 0 rfl rfl)
theorem dX1_puts_50 : decode cX1_puts 50 = .ok (.ireturn, 1) := dk_172 (dk_at dksX1_puts_2 2 rfl rfl)
theorem dX1_puts_51 : decode cX1_puts 51 = .ok (.aload 4, 2) := dk_25 4 (dk_at dksX1_puts_2 3 rfl rfl)
theorem dX1_puts_53 : decode cX1_puts 53 = .ok (.iload_n 2, 1) := dk_28 (dk_at dksX1_puts_2 5 rfl rfl)
theorem dX1_puts_54 : decode cX1_puts 54 = .ok (.iload_n 3, 1) := dk_29 (dk_at dksX1_puts_2 6 rfl rfl)
theorem dX1_puts_55 : decode cX1_puts 55 = .ok (.invokevirtual 312, 3) := dk_182 1 56 (dk_at dksX1_puts_2 7 rfl rfl)
theorem dX1_puts_58 : decode cX1_puts 58 = .ok (.aload 4, 2) := dk_25 4 (dk_at dksX1_puts_2 10 rfl rfl)
theorem dX1_puts_60 : decode cX1_puts 60 = .ok (.invokevirtual 310, 3) := dk_182 1 54 (dk_at dksX1_puts_2 12 rfl rfl)
theorem dX1_puts_63 : decode cX1_puts 63 = .ok (.ireturn, 1) := dk_172 (dk_at dksX1_puts_2 15 rfl rfl)
def dkwX1_isLine_0 : List UInt8 := [26, 133, 9, 20, 0, 209, 184, 0, 5, 172]
abbrev dktX1_isLine_0 : List UInt8 := dkwX1_isLine_0 ++ []
theorem dksX1_isLine_0 : cX1_isLine.data.toList.drop 0 = dktX1_isLine_0 := by decide +kernel
theorem dX1_isLine_0 : decode cX1_isLine 0 = .ok (.iload_n 0, 1) := dk_26 (dk_at dksX1_isLine_0 0 rfl rfl)
theorem dX1_isLine_1 : decode cX1_isLine 1 = .ok (.i2l, 1) := dk_133 (dk_at dksX1_isLine_0 1 rfl rfl)
theorem dX1_isLine_2 : decode cX1_isLine 2 = .ok (.lconst 0, 1) := dk_9 (dk_at dksX1_isLine_0 2 rfl rfl)
theorem dX1_isLine_3 : decode cX1_isLine 3 = .ok (.ldc2_w 209, 3) := dk_20 0 209 (dk_at dksX1_isLine_0 3 rfl rfl)
theorem dX1_isLine_6 : decode cX1_isLine 6 = .ok (.invokestatic 5, 3) := dk_184 0 5 (dk_at dksX1_isLine_0 6 rfl rfl)
theorem dX1_isLine_9 : decode cX1_isLine 9 = .ok (.ireturn, 1) := dk_172 (dk_at dksX1_isLine_0 9 rfl rfl)
def dkwX1_isEnd_0 : List UInt8 := [26, 133, 9, 10, 184, 0, 5, 172]
abbrev dktX1_isEnd_0 : List UInt8 := dkwX1_isEnd_0 ++ []
theorem dksX1_isEnd_0 : cX1_isEnd.data.toList.drop 0 = dktX1_isEnd_0 := by decide +kernel
theorem dX1_isEnd_0 : decode cX1_isEnd 0 = .ok (.iload_n 0, 1) := dk_26 (dk_at dksX1_isEnd_0 0 rfl rfl)
theorem dX1_isEnd_1 : decode cX1_isEnd 1 = .ok (.i2l, 1) := dk_133 (dk_at dksX1_isEnd_0 1 rfl rfl)
theorem dX1_isEnd_2 : decode cX1_isEnd 2 = .ok (.lconst 0, 1) := dk_9 (dk_at dksX1_isEnd_0 2 rfl rfl)
theorem dX1_isEnd_3 : decode cX1_isEnd 3 = .ok (.lconst 1, 1) := dk_10 (dk_at dksX1_isEnd_0 3 rfl rfl)
theorem dX1_isEnd_4 : decode cX1_isEnd 4 = .ok (.invokestatic 5, 3) := dk_184 0 5 (dk_at dksX1_isEnd_0 4 rfl rfl)
theorem dX1_isEnd_7 : decode cX1_isEnd 7 = .ok (.ireturn, 1) := dk_172 (dk_at dksX1_isEnd_0 7 rfl rfl)
def dkwX1_takes_3 : List UInt8 := [182, 0, 202, 21, 6, 172]
abbrev dktX1_takes_3 : List UInt8 := dkwX1_takes_3 ++ []
def dkwX1_takes_2 : List UInt8 := [55, 4, 45, 28, 182, 1, 62, 54, 6, 42, 3, 181, 0, 199, 42, 42, 180, 1, 59, 22, 4, 101]
abbrev dktX1_takes_2 : List UInt8 := dkwX1_takes_2 ++ dktX1_takes_3
def dkwX1_takes_1 : List UInt8 := [185, 1, 51, 2, 0, 192, 0, 157, 78, 45, 182, 1, 54, 154, 0, 6, 16, 254, 172, 42, 180, 1, 59]
abbrev dktX1_takes_1 : List UInt8 := dkwX1_takes_1 ++ dktX1_takes_2
def dkwX1_takes_0 : List UInt8 := [27, 184, 1, 45, 153, 0, 10, 28, 184, 1, 48, 154, 0, 5, 2, 172, 42, 180, 0, 162, 27]
abbrev dktX1_takes_0 : List UInt8 := dkwX1_takes_0 ++ dktX1_takes_1
theorem dksX1_takes_0 : cX1_takes.data.toList.drop 0 = dktX1_takes_0 := by decide +kernel
theorem dksX1_takes_1 : cX1_takes.data.toList.drop 21 = dktX1_takes_1 := dk_seg dksX1_takes_0 21 rfl rfl
theorem dksX1_takes_2 : cX1_takes.data.toList.drop 44 = dktX1_takes_2 := dk_seg dksX1_takes_1 23 rfl rfl
theorem dksX1_takes_3 : cX1_takes.data.toList.drop 66 = dktX1_takes_3 := dk_seg dksX1_takes_2 22 rfl rfl
theorem dX1_takes_0 : decode cX1_takes 0 = .ok (.iload_n 1, 1) := dk_27 (dk_at dksX1_takes_0 0 rfl rfl)
theorem dX1_takes_1 : decode cX1_takes 1 = .ok (.invokestatic 301, 3) := dk_184 1 45 (dk_at dksX1_takes_0 1 rfl rfl)
theorem dX1_takes_4 : decode cX1_takes 4 = .ok (.ifCond .eq 10, 3) := dk_153 0 10 (dk_at dksX1_takes_0 4 rfl rfl)
theorem dX1_takes_7 : decode cX1_takes 7 = .ok (.iload_n 2, 1) := dk_28 (dk_at dksX1_takes_0 7 rfl rfl)
theorem dX1_takes_8 : decode cX1_takes 8 = .ok (.invokestatic 304, 3) := dk_184 1 48 (dk_at dksX1_takes_0 8 rfl rfl)
theorem dX1_takes_11 : decode cX1_takes 11 = .ok (.ifCond .ne 5, 3) := dk_154 0 5 (dk_at dksX1_takes_0 11 rfl rfl)
theorem dX1_takes_14 : decode cX1_takes 14 = .ok (.iconst (-1), 1) := dk_2 (dk_at dksX1_takes_0 14 rfl rfl)
theorem dX1_takes_15 : decode cX1_takes 15 = .ok (.ireturn, 1) := dk_172 (dk_at dksX1_takes_0 15 rfl rfl)
theorem dX1_takes_16 : decode cX1_takes 16 = .ok (.aload_n 0, 1) := dk_42 (dk_at dksX1_takes_0 16 rfl rfl)
theorem dX1_takes_17 : decode cX1_takes 17 = .ok (.getfield 162, 3) := dk_180 0 162 (dk_at dksX1_takes_0 17 rfl rfl)
theorem dX1_takes_20 : decode cX1_takes 20 = .ok (.iload_n 1, 1) := dk_27 (dk_at dksX1_takes_0 20 rfl rfl)
theorem dX1_takes_21 : decode cX1_takes 21 = .ok (.invokeinterface 307 2, 5) := by decide +kernel
theorem dX1_takes_26 : decode cX1_takes 26 = .ok (.checkcast 157, 3) := dk_192 0 157 (dk_at dksX1_takes_1 5 rfl rfl)
theorem dX1_takes_29 : decode cX1_takes 29 = .ok (.astore_n 3, 1) := dk_78 (dk_at dksX1_takes_1 8 rfl rfl)
theorem dX1_takes_30 : decode cX1_takes 30 = .ok (.aload_n 3, 1) := dk_45 (dk_at dksX1_takes_1 9 rfl rfl)
theorem dX1_takes_31 : decode cX1_takes 31 = .ok (.invokevirtual 310, 3) := dk_182 1 54 (dk_at dksX1_takes_1 10 rfl rfl)
theorem dX1_takes_34 : decode cX1_takes 34 = .ok (.ifCond .ne 6, 3) := dk_154 0 6 (dk_at dksX1_takes_1 13 rfl rfl)
theorem dX1_takes_37 : decode cX1_takes 37 = .ok (.bipush (-2), 2) := dk_16 254 (dk_at dksX1_takes_1 16 rfl rfl)
theorem dX1_takes_39 : decode cX1_takes 39 = .ok (.ireturn, 1) := dk_172 (dk_at dksX1_takes_1 18 rfl rfl)
theorem dX1_takes_40 : decode cX1_takes 40 = .ok (.aload_n 0, 1) := dk_42 (dk_at dksX1_takes_1 19 rfl rfl)
theorem dX1_takes_41 : decode cX1_takes 41 = .ok (.getfield 315, 3) := dk_180 1 59 (dk_at dksX1_takes_1 20 rfl rfl)
theorem dX1_takes_44 : decode cX1_takes 44 = .ok (.lstore 4, 2) := dk_55 4 (dk_at dksX1_takes_2 0 rfl rfl)
theorem dX1_takes_46 : decode cX1_takes 46 = .ok (.aload_n 3, 1) := dk_45 (dk_at dksX1_takes_2 2 rfl rfl)
theorem dX1_takes_47 : decode cX1_takes 47 = .ok (.iload_n 2, 1) := dk_28 (dk_at dksX1_takes_2 3 rfl rfl)
theorem dX1_takes_48 : decode cX1_takes 48 = .ok (.invokevirtual 318, 3) := dk_182 1 62 (dk_at dksX1_takes_2 4 rfl rfl)
theorem dX1_takes_51 : decode cX1_takes 51 = .ok (.istore 6, 2) := dk_54 6 (dk_at dksX1_takes_2 7 rfl rfl)
theorem dX1_takes_53 : decode cX1_takes 53 = .ok (.aload_n 0, 1) := dk_42 (dk_at dksX1_takes_2 9 rfl rfl)
theorem dX1_takes_54 : decode cX1_takes 54 = .ok (.iconst 0, 1) := dk_3 (dk_at dksX1_takes_2 10 rfl rfl)
theorem dX1_takes_55 : decode cX1_takes 55 = .ok (.putfield 199, 3) := dk_181 0 199 (dk_at dksX1_takes_2 11 rfl rfl)
theorem dX1_takes_58 : decode cX1_takes 58 = .ok (.aload_n 0, 1) := dk_42 (dk_at dksX1_takes_2 14 rfl rfl)
theorem dX1_takes_59 : decode cX1_takes 59 = .ok (.aload_n 0, 1) := dk_42 (dk_at dksX1_takes_2 15 rfl rfl)
theorem dX1_takes_60 : decode cX1_takes 60 = .ok (.getfield 315, 3) := dk_180 1 59 (dk_at dksX1_takes_2 16 rfl rfl)
theorem dX1_takes_63 : decode cX1_takes 63 = .ok (.lload 4, 2) := dk_22 4 (dk_at dksX1_takes_2 19 rfl rfl)
theorem dX1_takes_65 : decode cX1_takes 65 = .ok (.lsub, 1) := dk_101 (dk_at dksX1_takes_2 21 rfl rfl)
theorem dX1_takes_66 : decode cX1_takes 66 = .ok (.invokevirtual 202, 3) := dk_182 0 202 (dk_at dksX1_takes_3 0 rfl rfl)
theorem dX1_takes_69 : decode cX1_takes 69 = .ok (.iload 6, 2) := dk_21 6 (dk_at dksX1_takes_3 3 rfl rfl)
theorem dX1_takes_71 : decode cX1_takes 71 = .ok (.ireturn, 1) := dk_172 (dk_at dksX1_takes_3 5 rfl rfl)
def dkwX1_copies_2 : List UInt8 := [192, 0, 157, 182, 1, 65, 42, 180, 0, 162, 28, 185, 1, 51, 2, 0, 192, 0, 157, 182, 1, 54, 172]
abbrev dktX1_copies_2 : List UInt8 := dkwX1_copies_2 ++ []
def dkwX1_copies_1 : List UInt8 := [42, 180, 0, 162, 28, 185, 1, 51, 2, 0, 192, 0, 157, 42, 180, 0, 162, 27, 185, 1, 51, 2, 0]
abbrev dktX1_copies_1 : List UInt8 := dkwX1_copies_1 ++ dktX1_copies_2
def dkwX1_copies_0 : List UInt8 := [27, 184, 1, 45, 153, 0, 10, 28, 184, 1, 45, 154, 0, 5, 2, 172, 27, 28, 160, 0, 6, 16, 254, 172]
abbrev dktX1_copies_0 : List UInt8 := dkwX1_copies_0 ++ dktX1_copies_1
theorem dksX1_copies_0 : cX1_copies.data.toList.drop 0 = dktX1_copies_0 := by decide +kernel
theorem dksX1_copies_1 : cX1_copies.data.toList.drop 24 = dktX1_copies_1 := dk_seg dksX1_copies_0 24 rfl rfl
theorem dksX1_copies_2 : cX1_copies.data.toList.drop 47 = dktX1_copies_2 := dk_seg dksX1_copies_1 23 rfl rfl
theorem dX1_copies_0 : decode cX1_copies 0 = .ok (.iload_n 1, 1) := dk_27 (dk_at dksX1_copies_0 0 rfl rfl)
theorem dX1_copies_1 : decode cX1_copies 1 = .ok (.invokestatic 301, 3) := dk_184 1 45 (dk_at dksX1_copies_0 1 rfl rfl)
theorem dX1_copies_4 : decode cX1_copies 4 = .ok (.ifCond .eq 10, 3) := dk_153 0 10 (dk_at dksX1_copies_0 4 rfl rfl)
theorem dX1_copies_7 : decode cX1_copies 7 = .ok (.iload_n 2, 1) := dk_28 (dk_at dksX1_copies_0 7 rfl rfl)
theorem dX1_copies_8 : decode cX1_copies 8 = .ok (.invokestatic 301, 3) := dk_184 1 45 (dk_at dksX1_copies_0 8 rfl rfl)
theorem dX1_copies_11 : decode cX1_copies 11 = .ok (.ifCond .ne 5, 3) := dk_154 0 5 (dk_at dksX1_copies_0 11 rfl rfl)
theorem dX1_copies_14 : decode cX1_copies 14 = .ok (.iconst (-1), 1) := dk_2 (dk_at dksX1_copies_0 14 rfl rfl)
theorem dX1_copies_15 : decode cX1_copies 15 = .ok (.ireturn, 1) := dk_172 (dk_at dksX1_copies_0 15 rfl rfl)
theorem dX1_copies_16 : decode cX1_copies 16 = .ok (.iload_n 1, 1) := dk_27 (dk_at dksX1_copies_0 16 rfl rfl)
theorem dX1_copies_17 : decode cX1_copies 17 = .ok (.iload_n 2, 1) := dk_28 (dk_at dksX1_copies_0 17 rfl rfl)
theorem dX1_copies_18 : decode cX1_copies 18 = .ok (.if_icmp .ne 6, 3) := dk_160 0 6 (dk_at dksX1_copies_0 18 rfl rfl)
theorem dX1_copies_21 : decode cX1_copies 21 = .ok (.bipush (-2), 2) := dk_16 254 (dk_at dksX1_copies_0 21 rfl rfl)
theorem dX1_copies_23 : decode cX1_copies 23 = .ok (.ireturn, 1) := dk_172 (dk_at dksX1_copies_0 23 rfl rfl)
theorem dX1_copies_24 : decode cX1_copies 24 = .ok (.aload_n 0, 1) := dk_42 (dk_at dksX1_copies_1 0 rfl rfl)
theorem dX1_copies_25 : decode cX1_copies 25 = .ok (.getfield 162, 3) := dk_180 0 162 (dk_at dksX1_copies_1 1 rfl rfl)
theorem dX1_copies_28 : decode cX1_copies 28 = .ok (.iload_n 2, 1) := dk_28 (dk_at dksX1_copies_1 4 rfl rfl)
theorem dX1_copies_29 : decode cX1_copies 29 = .ok (.invokeinterface 307 2, 5) := by decide +kernel
theorem dX1_copies_34 : decode cX1_copies 34 = .ok (.checkcast 157, 3) := dk_192 0 157 (dk_at dksX1_copies_1 10 rfl rfl)
theorem dX1_copies_37 : decode cX1_copies 37 = .ok (.aload_n 0, 1) := dk_42 (dk_at dksX1_copies_1 13 rfl rfl)
theorem dX1_copies_38 : decode cX1_copies 38 = .ok (.getfield 162, 3) := dk_180 0 162 (dk_at dksX1_copies_1 14 rfl rfl)
theorem dX1_copies_41 : decode cX1_copies 41 = .ok (.iload_n 1, 1) := dk_27 (dk_at dksX1_copies_1 17 rfl rfl)
theorem dX1_copies_42 : decode cX1_copies 42 = .ok (.invokeinterface 307 2, 5) := by decide +kernel
theorem dX1_copies_47 : decode cX1_copies 47 = .ok (.checkcast 157, 3) := dk_192 0 157 (dk_at dksX1_copies_2 0 rfl rfl)
theorem dX1_copies_50 : decode cX1_copies 50 = .ok (.invokevirtual 321, 3) := dk_182 1 65 (dk_at dksX1_copies_2 3 rfl rfl)
theorem dX1_copies_53 : decode cX1_copies 53 = .ok (.aload_n 0, 1) := dk_42 (dk_at dksX1_copies_2 6 rfl rfl)
theorem dX1_copies_54 : decode cX1_copies 54 = .ok (.getfield 162, 3) := dk_180 0 162 (dk_at dksX1_copies_2 7 rfl rfl)
theorem dX1_copies_57 : decode cX1_copies 57 = .ok (.iload_n 2, 1) := dk_28 (dk_at dksX1_copies_2 10 rfl rfl)
theorem dX1_copies_58 : decode cX1_copies 58 = .ok (.invokeinterface 307 2, 5) := by decide +kernel
theorem dX1_copies_63 : decode cX1_copies 63 = .ok (.checkcast 157, 3) := dk_192 0 157 (dk_at dksX1_copies_2 16 rfl rfl)
theorem dX1_copies_66 : decode cX1_copies 66 = .ok (.invokevirtual 310, 3) := dk_182 1 54 (dk_at dksX1_copies_2 19 rfl rfl)
theorem dX1_copies_69 : decode cX1_copies 69 = .ok (.ireturn, 1) := dk_172 (dk_at dksX1_copies_2 22 rfl rfl)
def dkwX1_joins_5 : List UInt8 := [22, 4, 101, 182, 0, 202, 45, 182, 1, 54, 172]
abbrev dktX1_joins_5 : List UInt8 := dkwX1_joins_5 ++ []
def dkwX1_joins_4 : List UInt8 := [180, 0, 166, 3, 182, 1, 62, 182, 1, 56, 167, 255, 233, 42, 3, 181, 0, 199, 42, 42, 180, 1, 59]
abbrev dktX1_joins_4 : List UInt8 := dkwX1_joins_4 ++ dktX1_joins_5
def dkwX1_joins_3 : List UInt8 := [16, 253, 172, 42, 180, 1, 59, 55, 4, 42, 180, 0, 166, 182, 1, 54, 158, 0, 19, 45, 4, 42]
abbrev dktX1_joins_3 : List UInt8 := dkwX1_joins_3 ++ dktX1_joins_4
def dkwX1_joins_2 : List UInt8 := [192, 0, 157, 182, 1, 65, 45, 182, 1, 54, 42, 180, 0, 166, 182, 1, 54, 96, 16, 64, 164, 0, 6]
abbrev dktX1_joins_2 : List UInt8 := dkwX1_joins_2 ++ dktX1_joins_3
def dkwX1_joins_1 : List UInt8 := [185, 1, 51, 2, 0, 192, 0, 157, 78, 42, 180, 0, 166, 42, 180, 0, 162, 28, 185, 1, 51, 2, 0]
abbrev dktX1_joins_1 : List UInt8 := dkwX1_joins_1 ++ dktX1_joins_2
def dkwX1_joins_0 : List UInt8 := [27, 184, 1, 45, 153, 0, 10, 28, 184, 1, 45, 154, 0, 5, 2, 172, 42, 180, 0, 162, 27]
abbrev dktX1_joins_0 : List UInt8 := dkwX1_joins_0 ++ dktX1_joins_1
theorem dksX1_joins_0 : cX1_joins.data.toList.drop 0 = dktX1_joins_0 := by decide +kernel
theorem dksX1_joins_1 : cX1_joins.data.toList.drop 21 = dktX1_joins_1 := dk_seg dksX1_joins_0 21 rfl rfl
theorem dksX1_joins_2 : cX1_joins.data.toList.drop 44 = dktX1_joins_2 := dk_seg dksX1_joins_1 23 rfl rfl
theorem dksX1_joins_3 : cX1_joins.data.toList.drop 67 = dktX1_joins_3 := dk_seg dksX1_joins_2 23 rfl rfl
theorem dksX1_joins_4 : cX1_joins.data.toList.drop 89 = dktX1_joins_4 := dk_seg dksX1_joins_3 22 rfl rfl
theorem dksX1_joins_5 : cX1_joins.data.toList.drop 112 = dktX1_joins_5 := dk_seg dksX1_joins_4 23 rfl rfl
theorem dX1_joins_0 : decode cX1_joins 0 = .ok (.iload_n 1, 1) := dk_27 (dk_at dksX1_joins_0 0 rfl rfl)
theorem dX1_joins_1 : decode cX1_joins 1 = .ok (.invokestatic 301, 3) := dk_184 1 45 (dk_at dksX1_joins_0 1 rfl rfl)
theorem dX1_joins_4 : decode cX1_joins 4 = .ok (.ifCond .eq 10, 3) := dk_153 0 10 (dk_at dksX1_joins_0 4 rfl rfl)
theorem dX1_joins_7 : decode cX1_joins 7 = .ok (.iload_n 2, 1) := dk_28 (dk_at dksX1_joins_0 7 rfl rfl)
theorem dX1_joins_8 : decode cX1_joins 8 = .ok (.invokestatic 301, 3) := dk_184 1 45 (dk_at dksX1_joins_0 8 rfl rfl)
theorem dX1_joins_11 : decode cX1_joins 11 = .ok (.ifCond .ne 5, 3) := dk_154 0 5 (dk_at dksX1_joins_0 11 rfl rfl)
theorem dX1_joins_14 : decode cX1_joins 14 = .ok (.iconst (-1), 1) := dk_2 (dk_at dksX1_joins_0 14 rfl rfl)
theorem dX1_joins_15 : decode cX1_joins 15 = .ok (.ireturn, 1) := dk_172 (dk_at dksX1_joins_0 15 rfl rfl)
theorem dX1_joins_16 : decode cX1_joins 16 = .ok (.aload_n 0, 1) := dk_42 (dk_at dksX1_joins_0 16 rfl rfl)
theorem dX1_joins_17 : decode cX1_joins 17 = .ok (.getfield 162, 3) := dk_180 0 162 (dk_at dksX1_joins_0 17 rfl rfl)
theorem dX1_joins_20 : decode cX1_joins 20 = .ok (.iload_n 1, 1) := dk_27 (dk_at dksX1_joins_0 20 rfl rfl)
theorem dX1_joins_21 : decode cX1_joins 21 = .ok (.invokeinterface 307 2, 5) := by decide +kernel
theorem dX1_joins_26 : decode cX1_joins 26 = .ok (.checkcast 157, 3) := dk_192 0 157 (dk_at dksX1_joins_1 5 rfl rfl)
theorem dX1_joins_29 : decode cX1_joins 29 = .ok (.astore_n 3, 1) := dk_78 (dk_at dksX1_joins_1 8 rfl rfl)
theorem dX1_joins_30 : decode cX1_joins 30 = .ok (.aload_n 0, 1) := dk_42 (dk_at dksX1_joins_1 9 rfl rfl)
theorem dX1_joins_31 : decode cX1_joins 31 = .ok (.getfield 166, 3) := dk_180 0 166 (dk_at dksX1_joins_1 10 rfl rfl)
theorem dX1_joins_34 : decode cX1_joins 34 = .ok (.aload_n 0, 1) := dk_42 (dk_at dksX1_joins_1 13 rfl rfl)
theorem dX1_joins_35 : decode cX1_joins 35 = .ok (.getfield 162, 3) := dk_180 0 162 (dk_at dksX1_joins_1 14 rfl rfl)
theorem dX1_joins_38 : decode cX1_joins 38 = .ok (.iload_n 2, 1) := dk_28 (dk_at dksX1_joins_1 17 rfl rfl)
theorem dX1_joins_39 : decode cX1_joins 39 = .ok (.invokeinterface 307 2, 5) := by decide +kernel
theorem dX1_joins_44 : decode cX1_joins 44 = .ok (.checkcast 157, 3) := dk_192 0 157 (dk_at dksX1_joins_2 0 rfl rfl)
theorem dX1_joins_47 : decode cX1_joins 47 = .ok (.invokevirtual 321, 3) := dk_182 1 65 (dk_at dksX1_joins_2 3 rfl rfl)
theorem dX1_joins_50 : decode cX1_joins 50 = .ok (.aload_n 3, 1) := dk_45 (dk_at dksX1_joins_2 6 rfl rfl)
theorem dX1_joins_51 : decode cX1_joins 51 = .ok (.invokevirtual 310, 3) := dk_182 1 54 (dk_at dksX1_joins_2 7 rfl rfl)
theorem dX1_joins_54 : decode cX1_joins 54 = .ok (.aload_n 0, 1) := dk_42 (dk_at dksX1_joins_2 10 rfl rfl)
theorem dX1_joins_55 : decode cX1_joins 55 = .ok (.getfield 166, 3) := dk_180 0 166 (dk_at dksX1_joins_2 11 rfl rfl)
theorem dX1_joins_58 : decode cX1_joins 58 = .ok (.invokevirtual 310, 3) := dk_182 1 54 (dk_at dksX1_joins_2 14 rfl rfl)
theorem dX1_joins_61 : decode cX1_joins 61 = .ok (.iadd, 1) := dk_96 (dk_at dksX1_joins_2 17 rfl rfl)
theorem dX1_joins_62 : decode cX1_joins 62 = .ok (.bipush 64, 2) := dk_16 64 (dk_at dksX1_joins_2 18 rfl rfl)
theorem dX1_joins_64 : decode cX1_joins 64 = .ok (.if_icmp .le 6, 3) := dk_164 0 6 (dk_at dksX1_joins_2 20 rfl rfl)
theorem dX1_joins_67 : decode cX1_joins 67 = .ok (.bipush (-3), 2) := dk_16 253 (dk_at dksX1_joins_3 0 rfl rfl)
theorem dX1_joins_69 : decode cX1_joins 69 = .ok (.ireturn, 1) := dk_172 (dk_at dksX1_joins_3 2 rfl rfl)
theorem dX1_joins_70 : decode cX1_joins 70 = .ok (.aload_n 0, 1) := dk_42 (dk_at dksX1_joins_3 3 rfl rfl)
theorem dX1_joins_71 : decode cX1_joins 71 = .ok (.getfield 315, 3) := dk_180 1 59 (dk_at dksX1_joins_3 4 rfl rfl)
theorem dX1_joins_74 : decode cX1_joins 74 = .ok (.lstore 4, 2) := dk_55 4 (dk_at dksX1_joins_3 7 rfl rfl)
theorem dX1_joins_76 : decode cX1_joins 76 = .ok (.aload_n 0, 1) := dk_42 (dk_at dksX1_joins_3 9 rfl rfl)
theorem dX1_joins_77 : decode cX1_joins 77 = .ok (.getfield 166, 3) := dk_180 0 166 (dk_at dksX1_joins_3 10 rfl rfl)
theorem dX1_joins_80 : decode cX1_joins 80 = .ok (.invokevirtual 310, 3) := dk_182 1 54 (dk_at dksX1_joins_3 13 rfl rfl)
theorem dX1_joins_83 : decode cX1_joins 83 = .ok (.ifCond .le 19, 3) := dk_158 0 19 (dk_at dksX1_joins_3 16 rfl rfl)
theorem dX1_joins_86 : decode cX1_joins 86 = .ok (.aload_n 3, 1) := dk_45 (dk_at dksX1_joins_3 19 rfl rfl)
theorem dX1_joins_87 : decode cX1_joins 87 = .ok (.iconst 1, 1) := dk_4 (dk_at dksX1_joins_3 20 rfl rfl)
theorem dX1_joins_88 : decode cX1_joins 88 = .ok (.aload_n 0, 1) := dk_42 (dk_at dksX1_joins_3 21 rfl rfl)
theorem dX1_joins_89 : decode cX1_joins 89 = .ok (.getfield 166, 3) := dk_180 0 166 (dk_at dksX1_joins_4 0 rfl rfl)
theorem dX1_joins_92 : decode cX1_joins 92 = .ok (.iconst 0, 1) := dk_3 (dk_at dksX1_joins_4 3 rfl rfl)
theorem dX1_joins_93 : decode cX1_joins 93 = .ok (.invokevirtual 318, 3) := dk_182 1 62 (dk_at dksX1_joins_4 4 rfl rfl)
theorem dX1_joins_96 : decode cX1_joins 96 = .ok (.invokevirtual 312, 3) := dk_182 1 56 (dk_at dksX1_joins_4 7 rfl rfl)
theorem dX1_joins_99 : decode cX1_joins 99 = .ok (.goto (-23), 3) := dk_167 255 233 (dk_at dksX1_joins_4 10 rfl rfl)
theorem dX1_joins_102 : decode cX1_joins 102 = .ok (.aload_n 0, 1) := dk_42 (dk_at dksX1_joins_4 13 rfl rfl)
theorem dX1_joins_103 : decode cX1_joins 103 = .ok (.iconst 0, 1) := dk_3 (dk_at dksX1_joins_4 14 rfl rfl)
theorem dX1_joins_104 : decode cX1_joins 104 = .ok (.putfield 199, 3) := dk_181 0 199 (dk_at dksX1_joins_4 15 rfl rfl)
theorem dX1_joins_107 : decode cX1_joins 107 = .ok (.aload_n 0, 1) := dk_42 (dk_at dksX1_joins_4 18 rfl rfl)
theorem dX1_joins_108 : decode cX1_joins 108 = .ok (.aload_n 0, 1) := dk_42 (dk_at dksX1_joins_4 19 rfl rfl)
theorem dX1_joins_109 : decode cX1_joins 109 = .ok (.getfield 315, 3) := dk_180 1 59 (dk_at dksX1_joins_4 20 rfl rfl)
theorem dX1_joins_112 : decode cX1_joins 112 = .ok (.lload 4, 2) := dk_22 4 (dk_at dksX1_joins_5 0 rfl rfl)
theorem dX1_joins_114 : decode cX1_joins 114 = .ok (.lsub, 1) := dk_101 (dk_at dksX1_joins_5 2 rfl rfl)
theorem dX1_joins_115 : decode cX1_joins 115 = .ok (.invokevirtual 202, 3) := dk_182 0 202 (dk_at dksX1_joins_5 3 rfl rfl)
theorem dX1_joins_118 : decode cX1_joins 118 = .ok (.aload_n 3, 1) := dk_45 (dk_at dksX1_joins_5 6 rfl rfl)
theorem dX1_joins_119 : decode cX1_joins 119 = .ok (.invokevirtual 310, 3) := dk_182 1 54 (dk_at dksX1_joins_5 7 rfl rfl)
theorem dX1_joins_122 : decode cX1_joins 122 = .ok (.ireturn, 1) := dk_172 (dk_at dksX1_joins_5 10 rfl rfl)
def dkwX1_parts_5 : List UInt8 := [21, 5, 28, 100, 172]
abbrev dktX1_parts_5 : List UInt8 := dkwX1_parts_5 ++ []
def dkwX1_parts_4 : List UInt8 := [192, 0, 157, 42, 180, 0, 173, 28, 21, 5, 28, 100, 21, 5, 28, 100, 4, 96, 5, 108, 182, 1, 72]
abbrev dktX1_parts_4 : List UInt8 := dkwX1_parts_4 ++ dktX1_parts_5
def dkwX1_parts_3 : List UInt8 := [180, 0, 173, 3, 28, 28, 4, 96, 5, 108, 182, 1, 72, 42, 180, 0, 162, 29, 185, 1, 51, 2, 0]
abbrev dktX1_parts_3 : List UInt8 := dkwX1_parts_3 ++ dktX1_parts_4
def dkwX1_parts_2 : List UInt8 := [182, 1, 54, 28, 162, 0, 6, 16, 253, 172, 25, 4, 42, 180, 0, 173, 182, 1, 69, 54, 5, 25, 4, 42]
abbrev dktX1_parts_2 : List UInt8 := dkwX1_parts_2 ++ dktX1_parts_3
def dkwX1_parts_1 : List UInt8 := [160, 0, 6, 16, 254, 172, 42, 180, 0, 162, 27, 185, 1, 51, 2, 0, 192, 0, 157, 58, 4, 25, 4]
abbrev dktX1_parts_1 : List UInt8 := dkwX1_parts_1 ++ dktX1_parts_2
def dkwX1_parts_0 : List UInt8 := [27, 184, 1, 45, 153, 0, 14, 29, 184, 1, 45, 153, 0, 7, 28, 156, 0, 5, 2, 172, 27, 29]
abbrev dktX1_parts_0 : List UInt8 := dkwX1_parts_0 ++ dktX1_parts_1
theorem dksX1_parts_0 : cX1_parts.data.toList.drop 0 = dktX1_parts_0 := by decide +kernel
theorem dksX1_parts_1 : cX1_parts.data.toList.drop 22 = dktX1_parts_1 := dk_seg dksX1_parts_0 22 rfl rfl
theorem dksX1_parts_2 : cX1_parts.data.toList.drop 45 = dktX1_parts_2 := dk_seg dksX1_parts_1 23 rfl rfl
theorem dksX1_parts_3 : cX1_parts.data.toList.drop 69 = dktX1_parts_3 := dk_seg dksX1_parts_2 24 rfl rfl
theorem dksX1_parts_4 : cX1_parts.data.toList.drop 92 = dktX1_parts_4 := dk_seg dksX1_parts_3 23 rfl rfl
theorem dksX1_parts_5 : cX1_parts.data.toList.drop 115 = dktX1_parts_5 := dk_seg dksX1_parts_4 23 rfl rfl
theorem dX1_parts_0 : decode cX1_parts 0 = .ok (.iload_n 1, 1) := dk_27 (dk_at dksX1_parts_0 0 rfl rfl)
theorem dX1_parts_1 : decode cX1_parts 1 = .ok (.invokestatic 301, 3) := dk_184 1 45 (dk_at dksX1_parts_0 1 rfl rfl)
theorem dX1_parts_4 : decode cX1_parts 4 = .ok (.ifCond .eq 14, 3) := dk_153 0 14 (dk_at dksX1_parts_0 4 rfl rfl)
theorem dX1_parts_7 : decode cX1_parts 7 = .ok (.iload_n 3, 1) := dk_29 (dk_at dksX1_parts_0 7 rfl rfl)
theorem dX1_parts_8 : decode cX1_parts 8 = .ok (.invokestatic 301, 3) := dk_184 1 45 (dk_at dksX1_parts_0 8 rfl rfl)
theorem dX1_parts_11 : decode cX1_parts 11 = .ok (.ifCond .eq 7, 3) := dk_153 0 7 (dk_at dksX1_parts_0 11 rfl rfl)
theorem dX1_parts_14 : decode cX1_parts 14 = .ok (.iload_n 2, 1) := dk_28 (dk_at dksX1_parts_0 14 rfl rfl)
theorem dX1_parts_15 : decode cX1_parts 15 = .ok (.ifCond .ge 5, 3) := dk_156 0 5 (dk_at dksX1_parts_0 15 rfl rfl)
theorem dX1_parts_18 : decode cX1_parts 18 = .ok (.iconst (-1), 1) := dk_2 (dk_at dksX1_parts_0 18 rfl rfl)
theorem dX1_parts_19 : decode cX1_parts 19 = .ok (.ireturn, 1) := dk_172 (dk_at dksX1_parts_0 19 rfl rfl)
theorem dX1_parts_20 : decode cX1_parts 20 = .ok (.iload_n 1, 1) := dk_27 (dk_at dksX1_parts_0 20 rfl rfl)
theorem dX1_parts_21 : decode cX1_parts 21 = .ok (.iload_n 3, 1) := dk_29 (dk_at dksX1_parts_0 21 rfl rfl)
theorem dX1_parts_22 : decode cX1_parts 22 = .ok (.if_icmp .ne 6, 3) := dk_160 0 6 (dk_at dksX1_parts_1 0 rfl rfl)
theorem dX1_parts_25 : decode cX1_parts 25 = .ok (.bipush (-2), 2) := dk_16 254 (dk_at dksX1_parts_1 3 rfl rfl)
theorem dX1_parts_27 : decode cX1_parts 27 = .ok (.ireturn, 1) := dk_172 (dk_at dksX1_parts_1 5 rfl rfl)
theorem dX1_parts_28 : decode cX1_parts 28 = .ok (.aload_n 0, 1) := dk_42 (dk_at dksX1_parts_1 6 rfl rfl)
theorem dX1_parts_29 : decode cX1_parts 29 = .ok (.getfield 162, 3) := dk_180 0 162 (dk_at dksX1_parts_1 7 rfl rfl)
theorem dX1_parts_32 : decode cX1_parts 32 = .ok (.iload_n 1, 1) := dk_27 (dk_at dksX1_parts_1 10 rfl rfl)
theorem dX1_parts_33 : decode cX1_parts 33 = .ok (.invokeinterface 307 2, 5) := by decide +kernel
theorem dX1_parts_38 : decode cX1_parts 38 = .ok (.checkcast 157, 3) := dk_192 0 157 (dk_at dksX1_parts_1 16 rfl rfl)
theorem dX1_parts_41 : decode cX1_parts 41 = .ok (.astore 4, 2) := dk_58 4 (dk_at dksX1_parts_1 19 rfl rfl)
theorem dX1_parts_43 : decode cX1_parts 43 = .ok (.aload 4, 2) := dk_25 4 (dk_at dksX1_parts_1 21 rfl rfl)
theorem dX1_parts_45 : decode cX1_parts 45 = .ok (.invokevirtual 310, 3) := dk_182 1 54 (dk_at dksX1_parts_2 0 rfl rfl)
theorem dX1_parts_48 : decode cX1_parts 48 = .ok (.iload_n 2, 1) := dk_28 (dk_at dksX1_parts_2 3 rfl rfl)
theorem dX1_parts_49 : decode cX1_parts 49 = .ok (.if_icmp .ge 6, 3) := dk_162 0 6 (dk_at dksX1_parts_2 4 rfl rfl)
theorem dX1_parts_52 : decode cX1_parts 52 = .ok (.bipush (-3), 2) := dk_16 253 (dk_at dksX1_parts_2 7 rfl rfl)
theorem dX1_parts_54 : decode cX1_parts 54 = .ok (.ireturn, 1) := dk_172 (dk_at dksX1_parts_2 9 rfl rfl)
theorem dX1_parts_55 : decode cX1_parts 55 = .ok (.aload 4, 2) := dk_25 4 (dk_at dksX1_parts_2 10 rfl rfl)
theorem dX1_parts_57 : decode cX1_parts 57 = .ok (.aload_n 0, 1) := dk_42 (dk_at dksX1_parts_2 12 rfl rfl)
theorem dX1_parts_58 : decode cX1_parts 58 = .ok (.getfield 173, 3) := dk_180 0 173 (dk_at dksX1_parts_2 13 rfl rfl)
theorem dX1_parts_61 : decode cX1_parts 61 = .ok (.invokevirtual 325, 3) := dk_182 1 69 (dk_at dksX1_parts_2 16 rfl rfl)
theorem dX1_parts_64 : decode cX1_parts 64 = .ok (.istore 5, 2) := dk_54 5 (dk_at dksX1_parts_2 19 rfl rfl)
theorem dX1_parts_66 : decode cX1_parts 66 = .ok (.aload 4, 2) := dk_25 4 (dk_at dksX1_parts_2 21 rfl rfl)
theorem dX1_parts_68 : decode cX1_parts 68 = .ok (.aload_n 0, 1) := dk_42 (dk_at dksX1_parts_2 23 rfl rfl)
theorem dX1_parts_69 : decode cX1_parts 69 = .ok (.getfield 173, 3) := dk_180 0 173 (dk_at dksX1_parts_3 0 rfl rfl)
theorem dX1_parts_72 : decode cX1_parts 72 = .ok (.iconst 0, 1) := dk_3 (dk_at dksX1_parts_3 3 rfl rfl)
theorem dX1_parts_73 : decode cX1_parts 73 = .ok (.iload_n 2, 1) := dk_28 (dk_at dksX1_parts_3 4 rfl rfl)
theorem dX1_parts_74 : decode cX1_parts 74 = .ok (.iload_n 2, 1) := dk_28 (dk_at dksX1_parts_3 5 rfl rfl)
theorem dX1_parts_75 : decode cX1_parts 75 = .ok (.iconst 1, 1) := dk_4 (dk_at dksX1_parts_3 6 rfl rfl)
theorem dX1_parts_76 : decode cX1_parts 76 = .ok (.iadd, 1) := dk_96 (dk_at dksX1_parts_3 7 rfl rfl)
theorem dX1_parts_77 : decode cX1_parts 77 = .ok (.iconst 2, 1) := dk_5 (dk_at dksX1_parts_3 8 rfl rfl)
theorem dX1_parts_78 : decode cX1_parts 78 = .ok (.idiv, 1) := dk_108 (dk_at dksX1_parts_3 9 rfl rfl)
theorem dX1_parts_79 : decode cX1_parts 79 = .ok (.invokevirtual 328, 3) := dk_182 1 72 (dk_at dksX1_parts_3 10 rfl rfl)
theorem dX1_parts_82 : decode cX1_parts 82 = .ok (.aload_n 0, 1) := dk_42 (dk_at dksX1_parts_3 13 rfl rfl)
theorem dX1_parts_83 : decode cX1_parts 83 = .ok (.getfield 162, 3) := dk_180 0 162 (dk_at dksX1_parts_3 14 rfl rfl)
theorem dX1_parts_86 : decode cX1_parts 86 = .ok (.iload_n 3, 1) := dk_29 (dk_at dksX1_parts_3 17 rfl rfl)
theorem dX1_parts_87 : decode cX1_parts 87 = .ok (.invokeinterface 307 2, 5) := by decide +kernel
theorem dX1_parts_92 : decode cX1_parts 92 = .ok (.checkcast 157, 3) := dk_192 0 157 (dk_at dksX1_parts_4 0 rfl rfl)
theorem dX1_parts_95 : decode cX1_parts 95 = .ok (.aload_n 0, 1) := dk_42 (dk_at dksX1_parts_4 3 rfl rfl)
theorem dX1_parts_96 : decode cX1_parts 96 = .ok (.getfield 173, 3) := dk_180 0 173 (dk_at dksX1_parts_4 4 rfl rfl)
theorem dX1_parts_99 : decode cX1_parts 99 = .ok (.iload_n 2, 1) := dk_28 (dk_at dksX1_parts_4 7 rfl rfl)
theorem dX1_parts_100 : decode cX1_parts 100 = .ok (.iload 5, 2) := dk_21 5 (dk_at dksX1_parts_4 8 rfl rfl)
theorem dX1_parts_102 : decode cX1_parts 102 = .ok (.iload_n 2, 1) := dk_28 (dk_at dksX1_parts_4 10 rfl rfl)
theorem dX1_parts_103 : decode cX1_parts 103 = .ok (.isub, 1) := dk_100 (dk_at dksX1_parts_4 11 rfl rfl)
theorem dX1_parts_104 : decode cX1_parts 104 = .ok (.iload 5, 2) := dk_21 5 (dk_at dksX1_parts_4 12 rfl rfl)
theorem dX1_parts_106 : decode cX1_parts 106 = .ok (.iload_n 2, 1) := dk_28 (dk_at dksX1_parts_4 14 rfl rfl)
theorem dX1_parts_107 : decode cX1_parts 107 = .ok (.isub, 1) := dk_100 (dk_at dksX1_parts_4 15 rfl rfl)
theorem dX1_parts_108 : decode cX1_parts 108 = .ok (.iconst 1, 1) := dk_4 (dk_at dksX1_parts_4 16 rfl rfl)
theorem dX1_parts_109 : decode cX1_parts 109 = .ok (.iadd, 1) := dk_96 (dk_at dksX1_parts_4 17 rfl rfl)
theorem dX1_parts_110 : decode cX1_parts 110 = .ok (.iconst 2, 1) := dk_5 (dk_at dksX1_parts_4 18 rfl rfl)
theorem dX1_parts_111 : decode cX1_parts 111 = .ok (.idiv, 1) := dk_108 (dk_at dksX1_parts_4 19 rfl rfl)
theorem dX1_parts_112 : decode cX1_parts 112 = .ok (.invokevirtual 328, 3) := dk_182 1 72 (dk_at dksX1_parts_4 20 rfl rfl)
theorem dX1_parts_115 : decode cX1_parts 115 = .ok (.iload 5, 2) := dk_21 5 (dk_at dksX1_parts_5 0 rfl rfl)
theorem dX1_parts_117 : decode cX1_parts 117 = .ok (.iload_n 2, 1) := dk_28 (dk_at dksX1_parts_5 2 rfl rfl)
theorem dX1_parts_118 : decode cX1_parts 118 = .ok (.isub, 1) := dk_100 (dk_at dksX1_parts_5 3 rfl rfl)
theorem dX1_parts_119 : decode cX1_parts 119 = .ok (.ireturn, 1) := dk_172 (dk_at dksX1_parts_5 4 rfl rfl)
def dkwX1_reverses_1 : List UInt8 := [167, 0, 4, 2, 172]
abbrev dktX1_reverses_1 : List UInt8 := dkwX1_reverses_1 ++ []
def dkwX1_reverses_0 : List UInt8 := [27, 184, 1, 45, 153, 0, 23, 42, 42, 180, 0, 162, 27, 185, 1, 51, 2, 0, 192, 0, 157, 182, 1, 76]
abbrev dktX1_reverses_0 : List UInt8 := dkwX1_reverses_0 ++ dktX1_reverses_1
theorem dksX1_reverses_0 : cX1_reverses.data.toList.drop 0 = dktX1_reverses_0 := by decide +kernel
theorem dksX1_reverses_1 : cX1_reverses.data.toList.drop 24 = dktX1_reverses_1 := dk_seg dksX1_reverses_0 24 rfl rfl
theorem dX1_reverses_0 : decode cX1_reverses 0 = .ok (.iload_n 1, 1) := dk_27 (dk_at dksX1_reverses_0 0 rfl rfl)
theorem dX1_reverses_1 : decode cX1_reverses 1 = .ok (.invokestatic 301, 3) := dk_184 1 45 (dk_at dksX1_reverses_0 1 rfl rfl)
theorem dX1_reverses_4 : decode cX1_reverses 4 = .ok (.ifCond .eq 23, 3) := dk_153 0 23 (dk_at dksX1_reverses_0 4 rfl rfl)
theorem dX1_reverses_7 : decode cX1_reverses 7 = .ok (.aload_n 0, 1) := dk_42 (dk_at dksX1_reverses_0 7 rfl rfl)
theorem dX1_reverses_8 : decode cX1_reverses 8 = .ok (.aload_n 0, 1) := dk_42 (dk_at dksX1_reverses_0 8 rfl rfl)
theorem dX1_reverses_9 : decode cX1_reverses 9 = .ok (.getfield 162, 3) := dk_180 0 162 (dk_at dksX1_reverses_0 9 rfl rfl)
theorem dX1_reverses_12 : decode cX1_reverses 12 = .ok (.iload_n 1, 1) := dk_27 (dk_at dksX1_reverses_0 12 rfl rfl)
theorem dX1_reverses_13 : decode cX1_reverses 13 = .ok (.invokeinterface 307 2, 5) := by decide +kernel
theorem dX1_reverses_18 : decode cX1_reverses 18 = .ok (.checkcast 157, 3) := dk_192 0 157 (dk_at dksX1_reverses_0 18 rfl rfl)
theorem dX1_reverses_21 : decode cX1_reverses 21 = .ok (.invokevirtual 332, 3) := dk_182 1 76 (dk_at dksX1_reverses_0 21 rfl rfl)
theorem dX1_reverses_24 : decode cX1_reverses 24 = .ok (.goto 4, 3) := dk_167 0 4 (dk_at dksX1_reverses_1 0 rfl rfl)
theorem dX1_reverses_27 : decode cX1_reverses 27 = .ok (.iconst (-1), 1) := dk_2 (dk_at dksX1_reverses_1 3 rfl rfl)
theorem dX1_reverses_28 : decode cX1_reverses 28 = .ok (.ireturn, 1) := dk_172 (dk_at dksX1_reverses_1 4 rfl rfl)
def dkwX1_goesRound_2 : List UInt8 := [167, 255, 229, 43, 42, 180, 0, 173, 3, 28, 29, 182, 1, 72, 28, 172]
abbrev dktX1_goesRound_2 : List UInt8 := dkwX1_goesRound_2 ++ []
def dkwX1_goesRound_1 : List UInt8 := [162, 0, 27, 42, 180, 0, 173, 21, 4, 42, 180, 0, 170, 28, 4, 100, 21, 4, 100, 46, 79, 132, 4, 1]
abbrev dktX1_goesRound_1 : List UInt8 := dkwX1_goesRound_1 ++ dktX1_goesRound_2
def dkwX1_goesRound_0 : List UInt8 := [43, 42, 180, 0, 170, 182, 1, 69, 61, 43, 180, 0, 225, 4, 46, 62, 3, 54, 4, 21, 4, 28]
abbrev dktX1_goesRound_0 : List UInt8 := dkwX1_goesRound_0 ++ dktX1_goesRound_1
theorem dksX1_goesRound_0 : cX1_goesRound.data.toList.drop 0 = dktX1_goesRound_0 := by decide +kernel
theorem dksX1_goesRound_1 : cX1_goesRound.data.toList.drop 22 = dktX1_goesRound_1 := dk_seg dksX1_goesRound_0 22 rfl rfl
theorem dksX1_goesRound_2 : cX1_goesRound.data.toList.drop 46 = dktX1_goesRound_2 := dk_seg dksX1_goesRound_1 24 rfl rfl
theorem dX1_goesRound_0 : decode cX1_goesRound 0 = .ok (.aload_n 1, 1) := dk_43 (dk_at dksX1_goesRound_0 0 rfl rfl)
theorem dX1_goesRound_1 : decode cX1_goesRound 1 = .ok (.aload_n 0, 1) := dk_42 (dk_at dksX1_goesRound_0 1 rfl rfl)
theorem dX1_goesRound_2 : decode cX1_goesRound 2 = .ok (.getfield 170, 3) := dk_180 0 170 (dk_at dksX1_goesRound_0 2 rfl rfl)
theorem dX1_goesRound_5 : decode cX1_goesRound 5 = .ok (.invokevirtual 325, 3) := dk_182 1 69 (dk_at dksX1_goesRound_0 5 rfl rfl)
theorem dX1_goesRound_8 : decode cX1_goesRound 8 = .ok (.istore_n 2, 1) := dk_61 (dk_at dksX1_goesRound_0 8 rfl rfl)
theorem dX1_goesRound_9 : decode cX1_goesRound 9 = .ok (.aload_n 1, 1) := dk_43 (dk_at dksX1_goesRound_0 9 rfl rfl)
theorem dX1_goesRound_10 : decode cX1_goesRound 10 = .ok (.getfield 225, 3) := dk_180 0 225 (dk_at dksX1_goesRound_0 10 rfl rfl)
theorem dX1_goesRound_13 : decode cX1_goesRound 13 = .ok (.iconst 1, 1) := dk_4 (dk_at dksX1_goesRound_0 13 rfl rfl)
theorem dX1_goesRound_14 : decode cX1_goesRound 14 = .ok (.iaload, 1) := dk_46 (dk_at dksX1_goesRound_0 14 rfl rfl)
theorem dX1_goesRound_15 : decode cX1_goesRound 15 = .ok (.istore_n 3, 1) := dk_62 (dk_at dksX1_goesRound_0 15 rfl rfl)
theorem dX1_goesRound_16 : decode cX1_goesRound 16 = .ok (.iconst 0, 1) := dk_3 (dk_at dksX1_goesRound_0 16 rfl rfl)
theorem dX1_goesRound_17 : decode cX1_goesRound 17 = .ok (.istore 4, 2) := dk_54 4 (dk_at dksX1_goesRound_0 17 rfl rfl)
theorem dX1_goesRound_19 : decode cX1_goesRound 19 = .ok (.iload 4, 2) := dk_21 4 (dk_at dksX1_goesRound_0 19 rfl rfl)
theorem dX1_goesRound_21 : decode cX1_goesRound 21 = .ok (.iload_n 2, 1) := dk_28 (dk_at dksX1_goesRound_0 21 rfl rfl)
theorem dX1_goesRound_22 : decode cX1_goesRound 22 = .ok (.if_icmp .ge 27, 3) := dk_162 0 27 (dk_at dksX1_goesRound_1 0 rfl rfl)
theorem dX1_goesRound_25 : decode cX1_goesRound 25 = .ok (.aload_n 0, 1) := dk_42 (dk_at dksX1_goesRound_1 3 rfl rfl)
theorem dX1_goesRound_26 : decode cX1_goesRound 26 = .ok (.getfield 173, 3) := dk_180 0 173 (dk_at dksX1_goesRound_1 4 rfl rfl)
theorem dX1_goesRound_29 : decode cX1_goesRound 29 = .ok (.iload 4, 2) := dk_21 4 (dk_at dksX1_goesRound_1 7 rfl rfl)
theorem dX1_goesRound_31 : decode cX1_goesRound 31 = .ok (.aload_n 0, 1) := dk_42 (dk_at dksX1_goesRound_1 9 rfl rfl)
theorem dX1_goesRound_32 : decode cX1_goesRound 32 = .ok (.getfield 170, 3) := dk_180 0 170 (dk_at dksX1_goesRound_1 10 rfl rfl)
theorem dX1_goesRound_35 : decode cX1_goesRound 35 = .ok (.iload_n 2, 1) := dk_28 (dk_at dksX1_goesRound_1 13 rfl rfl)
theorem dX1_goesRound_36 : decode cX1_goesRound 36 = .ok (.iconst 1, 1) := dk_4 (dk_at dksX1_goesRound_1 14 rfl rfl)
theorem dX1_goesRound_37 : decode cX1_goesRound 37 = .ok (.isub, 1) := dk_100 (dk_at dksX1_goesRound_1 15 rfl rfl)
theorem dX1_goesRound_38 : decode cX1_goesRound 38 = .ok (.iload 4, 2) := dk_21 4 (dk_at dksX1_goesRound_1 16 rfl rfl)
theorem dX1_goesRound_40 : decode cX1_goesRound 40 = .ok (.isub, 1) := dk_100 (dk_at dksX1_goesRound_1 18 rfl rfl)
theorem dX1_goesRound_41 : decode cX1_goesRound 41 = .ok (.iaload, 1) := dk_46 (dk_at dksX1_goesRound_1 19 rfl rfl)
theorem dX1_goesRound_42 : decode cX1_goesRound 42 = .ok (.iastore, 1) := dk_79 (dk_at dksX1_goesRound_1 20 rfl rfl)
theorem dX1_goesRound_43 : decode cX1_goesRound 43 = .ok (.iinc 4 1, 3) := dk_132 4 1 (dk_at dksX1_goesRound_1 21 rfl rfl)
theorem dX1_goesRound_46 : decode cX1_goesRound 46 = .ok (.goto (-27), 3) := dk_167 255 229 (dk_at dksX1_goesRound_2 0 rfl rfl)
theorem dX1_goesRound_49 : decode cX1_goesRound 49 = .ok (.aload_n 1, 1) := dk_43 (dk_at dksX1_goesRound_2 3 rfl rfl)
theorem dX1_goesRound_50 : decode cX1_goesRound 50 = .ok (.aload_n 0, 1) := dk_42 (dk_at dksX1_goesRound_2 4 rfl rfl)
theorem dX1_goesRound_51 : decode cX1_goesRound 51 = .ok (.getfield 173, 3) := dk_180 0 173 (dk_at dksX1_goesRound_2 5 rfl rfl)
theorem dX1_goesRound_54 : decode cX1_goesRound 54 = .ok (.iconst 0, 1) := dk_3 (dk_at dksX1_goesRound_2 8 rfl rfl)
theorem dX1_goesRound_55 : decode cX1_goesRound 55 = .ok (.iload_n 2, 1) := dk_28 (dk_at dksX1_goesRound_2 9 rfl rfl)
theorem dX1_goesRound_56 : decode cX1_goesRound 56 = .ok (.iload_n 3, 1) := dk_29 (dk_at dksX1_goesRound_2 10 rfl rfl)
theorem dX1_goesRound_57 : decode cX1_goesRound 57 = .ok (.invokevirtual 328, 3) := dk_182 1 72 (dk_at dksX1_goesRound_2 11 rfl rfl)
theorem dX1_goesRound_60 : decode cX1_goesRound 60 = .ok (.iload_n 2, 1) := dk_28 (dk_at dksX1_goesRound_2 14 rfl rfl)
theorem dX1_goesRound_61 : decode cX1_goesRound 61 = .ok (.ireturn, 1) := dk_172 (dk_at dksX1_goesRound_2 15 rfl rfl)
def dkwX1_changes_4 : List UInt8 := [22, 5, 182, 1, 84, 21, 7, 172]
abbrev dktX1_changes_4 : List UInt8 := dkwX1_changes_4 ++ []
def dkwX1_changes_3 : List UInt8 := [160, 0, 6, 16, 252, 172, 42, 180, 1, 59, 55, 5, 25, 4, 28, 4, 4, 29, 182, 1, 80, 54, 7, 42]
abbrev dktX1_changes_3 : List UInt8 := dkwX1_changes_3 ++ dktX1_changes_4
def dkwX1_changes_2 : List UInt8 := [154, 0, 6, 16, 254, 172, 25, 4, 42, 180, 0, 170, 182, 1, 69, 87, 42, 180, 0, 170, 28, 46, 29]
abbrev dktX1_changes_2 : List UInt8 := dkwX1_changes_2 ++ dktX1_changes_3
def dkwX1_changes_1 : List UInt8 := [185, 1, 51, 2, 0, 192, 0, 157, 58, 4, 28, 133, 9, 25, 4, 182, 1, 54, 4, 100, 133, 184, 0, 5]
abbrev dktX1_changes_1 : List UInt8 := dkwX1_changes_1 ++ dktX1_changes_2
def dkwX1_changes_0 : List UInt8 := [27, 184, 1, 45, 153, 0, 10, 29, 184, 1, 19, 154, 0, 5, 2, 172, 42, 180, 0, 162, 27]
abbrev dktX1_changes_0 : List UInt8 := dkwX1_changes_0 ++ dktX1_changes_1
theorem dksX1_changes_0 : cX1_changes.data.toList.drop 0 = dktX1_changes_0 := by decide +kernel
theorem dksX1_changes_1 : cX1_changes.data.toList.drop 21 = dktX1_changes_1 := dk_seg dksX1_changes_0 21 rfl rfl
theorem dksX1_changes_2 : cX1_changes.data.toList.drop 45 = dktX1_changes_2 := dk_seg dksX1_changes_1 24 rfl rfl
theorem dksX1_changes_3 : cX1_changes.data.toList.drop 68 = dktX1_changes_3 := dk_seg dksX1_changes_2 23 rfl rfl
theorem dksX1_changes_4 : cX1_changes.data.toList.drop 92 = dktX1_changes_4 := dk_seg dksX1_changes_3 24 rfl rfl
theorem dX1_changes_0 : decode cX1_changes 0 = .ok (.iload_n 1, 1) := dk_27 (dk_at dksX1_changes_0 0 rfl rfl)
theorem dX1_changes_1 : decode cX1_changes 1 = .ok (.invokestatic 301, 3) := dk_184 1 45 (dk_at dksX1_changes_0 1 rfl rfl)
theorem dX1_changes_4 : decode cX1_changes 4 = .ok (.ifCond .eq 10, 3) := dk_153 0 10 (dk_at dksX1_changes_0 4 rfl rfl)
theorem dX1_changes_7 : decode cX1_changes 7 = .ok (.iload_n 3, 1) := dk_29 (dk_at dksX1_changes_0 7 rfl rfl)
theorem dX1_changes_8 : decode cX1_changes 8 = .ok (.invokestatic 275, 3) := dk_184 1 19 (dk_at dksX1_changes_0 8 rfl rfl)
theorem dX1_changes_11 : decode cX1_changes 11 = .ok (.ifCond .ne 5, 3) := dk_154 0 5 (dk_at dksX1_changes_0 11 rfl rfl)
theorem dX1_changes_14 : decode cX1_changes 14 = .ok (.iconst (-1), 1) := dk_2 (dk_at dksX1_changes_0 14 rfl rfl)
theorem dX1_changes_15 : decode cX1_changes 15 = .ok (.ireturn, 1) := dk_172 (dk_at dksX1_changes_0 15 rfl rfl)
theorem dX1_changes_16 : decode cX1_changes 16 = .ok (.aload_n 0, 1) := dk_42 (dk_at dksX1_changes_0 16 rfl rfl)
theorem dX1_changes_17 : decode cX1_changes 17 = .ok (.getfield 162, 3) := dk_180 0 162 (dk_at dksX1_changes_0 17 rfl rfl)
theorem dX1_changes_20 : decode cX1_changes 20 = .ok (.iload_n 1, 1) := dk_27 (dk_at dksX1_changes_0 20 rfl rfl)
theorem dX1_changes_21 : decode cX1_changes 21 = .ok (.invokeinterface 307 2, 5) := by decide +kernel
theorem dX1_changes_26 : decode cX1_changes 26 = .ok (.checkcast 157, 3) := dk_192 0 157 (dk_at dksX1_changes_1 5 rfl rfl)
theorem dX1_changes_29 : decode cX1_changes 29 = .ok (.astore 4, 2) := dk_58 4 (dk_at dksX1_changes_1 8 rfl rfl)
theorem dX1_changes_31 : decode cX1_changes 31 = .ok (.iload_n 2, 1) := dk_28 (dk_at dksX1_changes_1 10 rfl rfl)
theorem dX1_changes_32 : decode cX1_changes 32 = .ok (.i2l, 1) := dk_133 (dk_at dksX1_changes_1 11 rfl rfl)
theorem dX1_changes_33 : decode cX1_changes 33 = .ok (.lconst 0, 1) := dk_9 (dk_at dksX1_changes_1 12 rfl rfl)
theorem dX1_changes_34 : decode cX1_changes 34 = .ok (.aload 4, 2) := dk_25 4 (dk_at dksX1_changes_1 13 rfl rfl)
theorem dX1_changes_36 : decode cX1_changes 36 = .ok (.invokevirtual 310, 3) := dk_182 1 54 (dk_at dksX1_changes_1 15 rfl rfl)
theorem dX1_changes_39 : decode cX1_changes 39 = .ok (.iconst 1, 1) := dk_4 (dk_at dksX1_changes_1 18 rfl rfl)
theorem dX1_changes_40 : decode cX1_changes 40 = .ok (.isub, 1) := dk_100 (dk_at dksX1_changes_1 19 rfl rfl)
theorem dX1_changes_41 : decode cX1_changes 41 = .ok (.i2l, 1) := dk_133 (dk_at dksX1_changes_1 20 rfl rfl)
theorem dX1_changes_42 : decode cX1_changes 42 = .ok (.invokestatic 5, 3) := dk_184 0 5 (dk_at dksX1_changes_1 21 rfl rfl)
theorem dX1_changes_45 : decode cX1_changes 45 = .ok (.ifCond .ne 6, 3) := dk_154 0 6 (dk_at dksX1_changes_2 0 rfl rfl)
theorem dX1_changes_48 : decode cX1_changes 48 = .ok (.bipush (-2), 2) := dk_16 254 (dk_at dksX1_changes_2 3 rfl rfl)
theorem dX1_changes_50 : decode cX1_changes 50 = .ok (.ireturn, 1) := dk_172 (dk_at dksX1_changes_2 5 rfl rfl)
theorem dX1_changes_51 : decode cX1_changes 51 = .ok (.aload 4, 2) := dk_25 4 (dk_at dksX1_changes_2 6 rfl rfl)
theorem dX1_changes_53 : decode cX1_changes 53 = .ok (.aload_n 0, 1) := dk_42 (dk_at dksX1_changes_2 8 rfl rfl)
theorem dX1_changes_54 : decode cX1_changes 54 = .ok (.getfield 170, 3) := dk_180 0 170 (dk_at dksX1_changes_2 9 rfl rfl)
theorem dX1_changes_57 : decode cX1_changes 57 = .ok (.invokevirtual 325, 3) := dk_182 1 69 (dk_at dksX1_changes_2 12 rfl rfl)
theorem dX1_changes_60 : decode cX1_changes 60 = .ok (.pop, 1) := dk_87 (dk_at dksX1_changes_2 15 rfl rfl)
theorem dX1_changes_61 : decode cX1_changes 61 = .ok (.aload_n 0, 1) := dk_42 (dk_at dksX1_changes_2 16 rfl rfl)
theorem dX1_changes_62 : decode cX1_changes 62 = .ok (.getfield 170, 3) := dk_180 0 170 (dk_at dksX1_changes_2 17 rfl rfl)
theorem dX1_changes_65 : decode cX1_changes 65 = .ok (.iload_n 2, 1) := dk_28 (dk_at dksX1_changes_2 20 rfl rfl)
theorem dX1_changes_66 : decode cX1_changes 66 = .ok (.iaload, 1) := dk_46 (dk_at dksX1_changes_2 21 rfl rfl)
theorem dX1_changes_67 : decode cX1_changes 67 = .ok (.iload_n 3, 1) := dk_29 (dk_at dksX1_changes_2 22 rfl rfl)
theorem dX1_changes_68 : decode cX1_changes 68 = .ok (.if_icmp .ne 6, 3) := dk_160 0 6 (dk_at dksX1_changes_3 0 rfl rfl)
theorem dX1_changes_71 : decode cX1_changes 71 = .ok (.bipush (-4), 2) := dk_16 252 (dk_at dksX1_changes_3 3 rfl rfl)
theorem dX1_changes_73 : decode cX1_changes 73 = .ok (.ireturn, 1) := dk_172 (dk_at dksX1_changes_3 5 rfl rfl)
theorem dX1_changes_74 : decode cX1_changes 74 = .ok (.aload_n 0, 1) := dk_42 (dk_at dksX1_changes_3 6 rfl rfl)
theorem dX1_changes_75 : decode cX1_changes 75 = .ok (.getfield 315, 3) := dk_180 1 59 (dk_at dksX1_changes_3 7 rfl rfl)
theorem dX1_changes_78 : decode cX1_changes 78 = .ok (.lstore 5, 2) := dk_55 5 (dk_at dksX1_changes_3 10 rfl rfl)
theorem dX1_changes_80 : decode cX1_changes 80 = .ok (.aload 4, 2) := dk_25 4 (dk_at dksX1_changes_3 12 rfl rfl)
theorem dX1_changes_82 : decode cX1_changes 82 = .ok (.iload_n 2, 1) := dk_28 (dk_at dksX1_changes_3 14 rfl rfl)
theorem dX1_changes_83 : decode cX1_changes 83 = .ok (.iconst 1, 1) := dk_4 (dk_at dksX1_changes_3 15 rfl rfl)
theorem dX1_changes_84 : decode cX1_changes 84 = .ok (.iconst 1, 1) := dk_4 (dk_at dksX1_changes_3 16 rfl rfl)
theorem dX1_changes_85 : decode cX1_changes 85 = .ok (.iload_n 3, 1) := dk_29 (dk_at dksX1_changes_3 17 rfl rfl)
theorem dX1_changes_86 : decode cX1_changes 86 = .ok (.invokevirtual 336, 3) := dk_182 1 80 (dk_at dksX1_changes_3 18 rfl rfl)
theorem dX1_changes_89 : decode cX1_changes 89 = .ok (.istore 7, 2) := dk_54 7 (dk_at dksX1_changes_3 21 rfl rfl)
theorem dX1_changes_91 : decode cX1_changes 91 = .ok (.aload_n 0, 1) := dk_42 (dk_at dksX1_changes_3 23 rfl rfl)
theorem dX1_changes_92 : decode cX1_changes 92 = .ok (.lload 5, 2) := dk_22 5 (dk_at dksX1_changes_4 0 rfl rfl)
theorem dX1_changes_94 : decode cX1_changes 94 = .ok (.invokevirtual 340, 3) := dk_182 1 84 (dk_at dksX1_changes_4 2 rfl rfl)
theorem dX1_changes_97 : decode cX1_changes 97 = .ok (.iload 7, 2) := dk_21 7 (dk_at dksX1_changes_4 5 rfl rfl)
theorem dX1_changes_99 : decode cX1_changes 99 = .ok (.ireturn, 1) := dk_172 (dk_at dksX1_changes_4 7 rfl rfl)
def dkwX1_tellsWork_0 : List UInt8 := [42, 3, 181, 0, 199, 42, 42, 180, 1, 59, 31, 101, 182, 0, 202, 177]
abbrev dktX1_tellsWork_0 : List UInt8 := dkwX1_tellsWork_0 ++ []
theorem dksX1_tellsWork_0 : cX1_tellsWork.data.toList.drop 0 = dktX1_tellsWork_0 := by decide +kernel
theorem dX1_tellsWork_0 : decode cX1_tellsWork 0 = .ok (.aload_n 0, 1) := dk_42 (dk_at dksX1_tellsWork_0 0 rfl rfl)
theorem dX1_tellsWork_1 : decode cX1_tellsWork 1 = .ok (.iconst 0, 1) := dk_3 (dk_at dksX1_tellsWork_0 1 rfl rfl)
theorem dX1_tellsWork_2 : decode cX1_tellsWork 2 = .ok (.putfield 199, 3) := dk_181 0 199 (dk_at dksX1_tellsWork_0 2 rfl rfl)
theorem dX1_tellsWork_5 : decode cX1_tellsWork 5 = .ok (.aload_n 0, 1) := dk_42 (dk_at dksX1_tellsWork_0 5 rfl rfl)
theorem dX1_tellsWork_6 : decode cX1_tellsWork 6 = .ok (.aload_n 0, 1) := dk_42 (dk_at dksX1_tellsWork_0 6 rfl rfl)
theorem dX1_tellsWork_7 : decode cX1_tellsWork 7 = .ok (.getfield 315, 3) := dk_180 1 59 (dk_at dksX1_tellsWork_0 7 rfl rfl)
theorem dX1_tellsWork_10 : decode cX1_tellsWork 10 = .ok (.lload_n 1, 1) := dk_31 (dk_at dksX1_tellsWork_0 10 rfl rfl)
theorem dX1_tellsWork_11 : decode cX1_tellsWork 11 = .ok (.lsub, 1) := dk_101 (dk_at dksX1_tellsWork_0 11 rfl rfl)
theorem dX1_tellsWork_12 : decode cX1_tellsWork 12 = .ok (.invokevirtual 202, 3) := dk_182 0 202 (dk_at dksX1_tellsWork_0 12 rfl rfl)
theorem dX1_tellsWork_15 : decode cX1_tellsWork 15 = .ok (.return_, 1) := dk_177 (dk_at dksX1_tellsWork_0 15 rfl rfl)
def dkwX1_slips_3 : List UInt8 := [55, 5, 25, 4, 28, 3, 4, 29, 182, 1, 80, 87, 42, 22, 5, 182, 1, 84, 25, 4, 182, 1, 54, 172]
abbrev dktX1_slips_3 : List UInt8 := dkwX1_slips_3 ++ []
def dkwX1_slips_2 : List UInt8 := [154, 0, 6, 16, 254, 172, 25, 4, 182, 1, 54, 16, 64, 160, 0, 6, 16, 253, 172, 42, 180, 1, 59]
abbrev dktX1_slips_2 : List UInt8 := dkwX1_slips_2 ++ dktX1_slips_3
def dkwX1_slips_1 : List UInt8 := [185, 1, 51, 2, 0, 192, 0, 157, 58, 4, 28, 133, 9, 25, 4, 182, 1, 54, 133, 184, 0, 5]
abbrev dktX1_slips_1 : List UInt8 := dkwX1_slips_1 ++ dktX1_slips_2
def dkwX1_slips_0 : List UInt8 := [27, 184, 1, 45, 153, 0, 10, 29, 184, 1, 19, 154, 0, 5, 2, 172, 42, 180, 0, 162, 27]
abbrev dktX1_slips_0 : List UInt8 := dkwX1_slips_0 ++ dktX1_slips_1
theorem dksX1_slips_0 : cX1_slips.data.toList.drop 0 = dktX1_slips_0 := by decide +kernel
theorem dksX1_slips_1 : cX1_slips.data.toList.drop 21 = dktX1_slips_1 := dk_seg dksX1_slips_0 21 rfl rfl
theorem dksX1_slips_2 : cX1_slips.data.toList.drop 43 = dktX1_slips_2 := dk_seg dksX1_slips_1 22 rfl rfl
theorem dksX1_slips_3 : cX1_slips.data.toList.drop 66 = dktX1_slips_3 := dk_seg dksX1_slips_2 23 rfl rfl
theorem dX1_slips_0 : decode cX1_slips 0 = .ok (.iload_n 1, 1) := dk_27 (dk_at dksX1_slips_0 0 rfl rfl)
theorem dX1_slips_1 : decode cX1_slips 1 = .ok (.invokestatic 301, 3) := dk_184 1 45 (dk_at dksX1_slips_0 1 rfl rfl)
theorem dX1_slips_4 : decode cX1_slips 4 = .ok (.ifCond .eq 10, 3) := dk_153 0 10 (dk_at dksX1_slips_0 4 rfl rfl)
theorem dX1_slips_7 : decode cX1_slips 7 = .ok (.iload_n 3, 1) := dk_29 (dk_at dksX1_slips_0 7 rfl rfl)
theorem dX1_slips_8 : decode cX1_slips 8 = .ok (.invokestatic 275, 3) := dk_184 1 19 (dk_at dksX1_slips_0 8 rfl rfl)
theorem dX1_slips_11 : decode cX1_slips 11 = .ok (.ifCond .ne 5, 3) := dk_154 0 5 (dk_at dksX1_slips_0 11 rfl rfl)
theorem dX1_slips_14 : decode cX1_slips 14 = .ok (.iconst (-1), 1) := dk_2 (dk_at dksX1_slips_0 14 rfl rfl)
theorem dX1_slips_15 : decode cX1_slips 15 = .ok (.ireturn, 1) := dk_172 (dk_at dksX1_slips_0 15 rfl rfl)
theorem dX1_slips_16 : decode cX1_slips 16 = .ok (.aload_n 0, 1) := dk_42 (dk_at dksX1_slips_0 16 rfl rfl)
theorem dX1_slips_17 : decode cX1_slips 17 = .ok (.getfield 162, 3) := dk_180 0 162 (dk_at dksX1_slips_0 17 rfl rfl)
theorem dX1_slips_20 : decode cX1_slips 20 = .ok (.iload_n 1, 1) := dk_27 (dk_at dksX1_slips_0 20 rfl rfl)
theorem dX1_slips_21 : decode cX1_slips 21 = .ok (.invokeinterface 307 2, 5) := by decide +kernel
theorem dX1_slips_26 : decode cX1_slips 26 = .ok (.checkcast 157, 3) := dk_192 0 157 (dk_at dksX1_slips_1 5 rfl rfl)
theorem dX1_slips_29 : decode cX1_slips 29 = .ok (.astore 4, 2) := dk_58 4 (dk_at dksX1_slips_1 8 rfl rfl)
theorem dX1_slips_31 : decode cX1_slips 31 = .ok (.iload_n 2, 1) := dk_28 (dk_at dksX1_slips_1 10 rfl rfl)
theorem dX1_slips_32 : decode cX1_slips 32 = .ok (.i2l, 1) := dk_133 (dk_at dksX1_slips_1 11 rfl rfl)
theorem dX1_slips_33 : decode cX1_slips 33 = .ok (.lconst 0, 1) := dk_9 (dk_at dksX1_slips_1 12 rfl rfl)
theorem dX1_slips_34 : decode cX1_slips 34 = .ok (.aload 4, 2) := dk_25 4 (dk_at dksX1_slips_1 13 rfl rfl)
theorem dX1_slips_36 : decode cX1_slips 36 = .ok (.invokevirtual 310, 3) := dk_182 1 54 (dk_at dksX1_slips_1 15 rfl rfl)
theorem dX1_slips_39 : decode cX1_slips 39 = .ok (.i2l, 1) := dk_133 (dk_at dksX1_slips_1 18 rfl rfl)
theorem dX1_slips_40 : decode cX1_slips 40 = .ok (.invokestatic 5, 3) := dk_184 0 5 (dk_at dksX1_slips_1 19 rfl rfl)
theorem dX1_slips_43 : decode cX1_slips 43 = .ok (.ifCond .ne 6, 3) := dk_154 0 6 (dk_at dksX1_slips_2 0 rfl rfl)
theorem dX1_slips_46 : decode cX1_slips 46 = .ok (.bipush (-2), 2) := dk_16 254 (dk_at dksX1_slips_2 3 rfl rfl)
theorem dX1_slips_48 : decode cX1_slips 48 = .ok (.ireturn, 1) := dk_172 (dk_at dksX1_slips_2 5 rfl rfl)
theorem dX1_slips_49 : decode cX1_slips 49 = .ok (.aload 4, 2) := dk_25 4 (dk_at dksX1_slips_2 6 rfl rfl)
theorem dX1_slips_51 : decode cX1_slips 51 = .ok (.invokevirtual 310, 3) := dk_182 1 54 (dk_at dksX1_slips_2 8 rfl rfl)
theorem dX1_slips_54 : decode cX1_slips 54 = .ok (.bipush 64, 2) := dk_16 64 (dk_at dksX1_slips_2 11 rfl rfl)
theorem dX1_slips_56 : decode cX1_slips 56 = .ok (.if_icmp .ne 6, 3) := dk_160 0 6 (dk_at dksX1_slips_2 13 rfl rfl)
theorem dX1_slips_59 : decode cX1_slips 59 = .ok (.bipush (-3), 2) := dk_16 253 (dk_at dksX1_slips_2 16 rfl rfl)
theorem dX1_slips_61 : decode cX1_slips 61 = .ok (.ireturn, 1) := dk_172 (dk_at dksX1_slips_2 18 rfl rfl)
theorem dX1_slips_62 : decode cX1_slips 62 = .ok (.aload_n 0, 1) := dk_42 (dk_at dksX1_slips_2 19 rfl rfl)
theorem dX1_slips_63 : decode cX1_slips 63 = .ok (.getfield 315, 3) := dk_180 1 59 (dk_at dksX1_slips_2 20 rfl rfl)
theorem dX1_slips_66 : decode cX1_slips 66 = .ok (.lstore 5, 2) := dk_55 5 (dk_at dksX1_slips_3 0 rfl rfl)
theorem dX1_slips_68 : decode cX1_slips 68 = .ok (.aload 4, 2) := dk_25 4 (dk_at dksX1_slips_3 2 rfl rfl)
theorem dX1_slips_70 : decode cX1_slips 70 = .ok (.iload_n 2, 1) := dk_28 (dk_at dksX1_slips_3 4 rfl rfl)
theorem dX1_slips_71 : decode cX1_slips 71 = .ok (.iconst 0, 1) := dk_3 (dk_at dksX1_slips_3 5 rfl rfl)
theorem dX1_slips_72 : decode cX1_slips 72 = .ok (.iconst 1, 1) := dk_4 (dk_at dksX1_slips_3 6 rfl rfl)
theorem dX1_slips_73 : decode cX1_slips 73 = .ok (.iload_n 3, 1) := dk_29 (dk_at dksX1_slips_3 7 rfl rfl)
theorem dX1_slips_74 : decode cX1_slips 74 = .ok (.invokevirtual 336, 3) := dk_182 1 80 (dk_at dksX1_slips_3 8 rfl rfl)
theorem dX1_slips_77 : decode cX1_slips 77 = .ok (.pop, 1) := dk_87 (dk_at dksX1_slips_3 11 rfl rfl)
theorem dX1_slips_78 : decode cX1_slips 78 = .ok (.aload_n 0, 1) := dk_42 (dk_at dksX1_slips_3 12 rfl rfl)
theorem dX1_slips_79 : decode cX1_slips 79 = .ok (.lload 5, 2) := dk_22 5 (dk_at dksX1_slips_3 13 rfl rfl)
theorem dX1_slips_81 : decode cX1_slips 81 = .ok (.invokevirtual 340, 3) := dk_182 1 84 (dk_at dksX1_slips_3 15 rfl rfl)
theorem dX1_slips_84 : decode cX1_slips 84 = .ok (.aload 4, 2) := dk_25 4 (dk_at dksX1_slips_3 18 rfl rfl)
theorem dX1_slips_86 : decode cX1_slips 86 = .ok (.invokevirtual 310, 3) := dk_182 1 54 (dk_at dksX1_slips_3 20 rfl rfl)
theorem dX1_slips_89 : decode cX1_slips 89 = .ok (.ireturn, 1) := dk_172 (dk_at dksX1_slips_3 23 rfl rfl)
def dkwX1_drops_2 : List UInt8 := [45, 28, 4, 3, 3, 182, 1, 80, 54, 6, 42, 22, 4, 182, 1, 84, 21, 6, 172]
abbrev dktX1_drops_2 : List UInt8 := dkwX1_drops_2 ++ []
def dkwX1_drops_1 : List UInt8 := [133, 9, 45, 182, 1, 54, 4, 100, 133, 184, 0, 5, 154, 0, 6, 16, 254, 172, 42, 180, 1, 59, 55, 4]
abbrev dktX1_drops_1 : List UInt8 := dkwX1_drops_1 ++ dktX1_drops_2
def dkwX1_drops_0 : List UInt8 := [27, 184, 1, 45, 154, 0, 5, 2, 172, 42, 180, 0, 162, 27, 185, 1, 51, 2, 0, 192, 0, 157, 78, 28]
abbrev dktX1_drops_0 : List UInt8 := dkwX1_drops_0 ++ dktX1_drops_1
theorem dksX1_drops_0 : cX1_drops.data.toList.drop 0 = dktX1_drops_0 := by decide +kernel
theorem dksX1_drops_1 : cX1_drops.data.toList.drop 24 = dktX1_drops_1 := dk_seg dksX1_drops_0 24 rfl rfl
theorem dksX1_drops_2 : cX1_drops.data.toList.drop 48 = dktX1_drops_2 := dk_seg dksX1_drops_1 24 rfl rfl
theorem dX1_drops_0 : decode cX1_drops 0 = .ok (.iload_n 1, 1) := dk_27 (dk_at dksX1_drops_0 0 rfl rfl)
theorem dX1_drops_1 : decode cX1_drops 1 = .ok (.invokestatic 301, 3) := dk_184 1 45 (dk_at dksX1_drops_0 1 rfl rfl)
theorem dX1_drops_4 : decode cX1_drops 4 = .ok (.ifCond .ne 5, 3) := dk_154 0 5 (dk_at dksX1_drops_0 4 rfl rfl)
theorem dX1_drops_7 : decode cX1_drops 7 = .ok (.iconst (-1), 1) := dk_2 (dk_at dksX1_drops_0 7 rfl rfl)
theorem dX1_drops_8 : decode cX1_drops 8 = .ok (.ireturn, 1) := dk_172 (dk_at dksX1_drops_0 8 rfl rfl)
theorem dX1_drops_9 : decode cX1_drops 9 = .ok (.aload_n 0, 1) := dk_42 (dk_at dksX1_drops_0 9 rfl rfl)
theorem dX1_drops_10 : decode cX1_drops 10 = .ok (.getfield 162, 3) := dk_180 0 162 (dk_at dksX1_drops_0 10 rfl rfl)
theorem dX1_drops_13 : decode cX1_drops 13 = .ok (.iload_n 1, 1) := dk_27 (dk_at dksX1_drops_0 13 rfl rfl)
theorem dX1_drops_14 : decode cX1_drops 14 = .ok (.invokeinterface 307 2, 5) := by decide +kernel
theorem dX1_drops_19 : decode cX1_drops 19 = .ok (.checkcast 157, 3) := dk_192 0 157 (dk_at dksX1_drops_0 19 rfl rfl)
theorem dX1_drops_22 : decode cX1_drops 22 = .ok (.astore_n 3, 1) := dk_78 (dk_at dksX1_drops_0 22 rfl rfl)
theorem dX1_drops_23 : decode cX1_drops 23 = .ok (.iload_n 2, 1) := dk_28 (dk_at dksX1_drops_0 23 rfl rfl)
theorem dX1_drops_24 : decode cX1_drops 24 = .ok (.i2l, 1) := dk_133 (dk_at dksX1_drops_1 0 rfl rfl)
theorem dX1_drops_25 : decode cX1_drops 25 = .ok (.lconst 0, 1) := dk_9 (dk_at dksX1_drops_1 1 rfl rfl)
theorem dX1_drops_26 : decode cX1_drops 26 = .ok (.aload_n 3, 1) := dk_45 (dk_at dksX1_drops_1 2 rfl rfl)
theorem dX1_drops_27 : decode cX1_drops 27 = .ok (.invokevirtual 310, 3) := dk_182 1 54 (dk_at dksX1_drops_1 3 rfl rfl)
theorem dX1_drops_30 : decode cX1_drops 30 = .ok (.iconst 1, 1) := dk_4 (dk_at dksX1_drops_1 6 rfl rfl)
theorem dX1_drops_31 : decode cX1_drops 31 = .ok (.isub, 1) := dk_100 (dk_at dksX1_drops_1 7 rfl rfl)
theorem dX1_drops_32 : decode cX1_drops 32 = .ok (.i2l, 1) := dk_133 (dk_at dksX1_drops_1 8 rfl rfl)
theorem dX1_drops_33 : decode cX1_drops 33 = .ok (.invokestatic 5, 3) := dk_184 0 5 (dk_at dksX1_drops_1 9 rfl rfl)
theorem dX1_drops_36 : decode cX1_drops 36 = .ok (.ifCond .ne 6, 3) := dk_154 0 6 (dk_at dksX1_drops_1 12 rfl rfl)
theorem dX1_drops_39 : decode cX1_drops 39 = .ok (.bipush (-2), 2) := dk_16 254 (dk_at dksX1_drops_1 15 rfl rfl)
theorem dX1_drops_41 : decode cX1_drops 41 = .ok (.ireturn, 1) := dk_172 (dk_at dksX1_drops_1 17 rfl rfl)
theorem dX1_drops_42 : decode cX1_drops 42 = .ok (.aload_n 0, 1) := dk_42 (dk_at dksX1_drops_1 18 rfl rfl)
theorem dX1_drops_43 : decode cX1_drops 43 = .ok (.getfield 315, 3) := dk_180 1 59 (dk_at dksX1_drops_1 19 rfl rfl)
theorem dX1_drops_46 : decode cX1_drops 46 = .ok (.lstore 4, 2) := dk_55 4 (dk_at dksX1_drops_1 22 rfl rfl)
theorem dX1_drops_48 : decode cX1_drops 48 = .ok (.aload_n 3, 1) := dk_45 (dk_at dksX1_drops_2 0 rfl rfl)
theorem dX1_drops_49 : decode cX1_drops 49 = .ok (.iload_n 2, 1) := dk_28 (dk_at dksX1_drops_2 1 rfl rfl)
theorem dX1_drops_50 : decode cX1_drops 50 = .ok (.iconst 1, 1) := dk_4 (dk_at dksX1_drops_2 2 rfl rfl)
theorem dX1_drops_51 : decode cX1_drops 51 = .ok (.iconst 0, 1) := dk_3 (dk_at dksX1_drops_2 3 rfl rfl)
theorem dX1_drops_52 : decode cX1_drops 52 = .ok (.iconst 0, 1) := dk_3 (dk_at dksX1_drops_2 4 rfl rfl)
theorem dX1_drops_53 : decode cX1_drops 53 = .ok (.invokevirtual 336, 3) := dk_182 1 80 (dk_at dksX1_drops_2 5 rfl rfl)
theorem dX1_drops_56 : decode cX1_drops 56 = .ok (.istore 6, 2) := dk_54 6 (dk_at dksX1_drops_2 8 rfl rfl)
theorem dX1_drops_58 : decode cX1_drops 58 = .ok (.aload_n 0, 1) := dk_42 (dk_at dksX1_drops_2 10 rfl rfl)
theorem dX1_drops_59 : decode cX1_drops 59 = .ok (.lload 4, 2) := dk_22 4 (dk_at dksX1_drops_2 11 rfl rfl)
theorem dX1_drops_61 : decode cX1_drops 61 = .ok (.invokevirtual 340, 3) := dk_182 1 84 (dk_at dksX1_drops_2 13 rfl rfl)
theorem dX1_drops_64 : decode cX1_drops 64 = .ok (.iload 6, 2) := dk_21 6 (dk_at dksX1_drops_2 16 rfl rfl)
theorem dX1_drops_66 : decode cX1_drops 66 = .ok (.ireturn, 1) := dk_172 (dk_at dksX1_drops_2 18 rfl rfl)
def dkwX1_shifts_5 : List UInt8 := [180, 1, 59, 22, 5, 101, 136, 172]
abbrev dktX1_shifts_5 : List UInt8 := dkwX1_shifts_5 ++ []
def dkwX1_shifts_4 : List UInt8 := [25, 4, 42, 180, 0, 154, 182, 1, 89, 42, 3, 181, 0, 199, 42, 42, 180, 0, 154, 182, 1, 29, 42]
abbrev dktX1_shifts_4 : List UInt8 := dkwX1_shifts_4 ++ dktX1_shifts_5
def dkwX1_shifts_3 : List UInt8 := [25, 4, 28, 182, 1, 62, 54, 8, 25, 4, 4, 28, 100, 21, 8, 182, 1, 56, 132, 7, 1, 167, 255, 229]
abbrev dktX1_shifts_3 : List UInt8 := dkwX1_shifts_3 ++ dktX1_shifts_4
def dkwX1_shifts_2 : List UInt8 := [182, 1, 54, 154, 0, 6, 16, 254, 172, 42, 180, 1, 59, 55, 5, 3, 54, 7, 21, 7, 29, 162, 0, 27]
abbrev dktX1_shifts_2 : List UInt8 := dkwX1_shifts_2 ++ dktX1_shifts_3
def dkwX1_shifts_1 : List UInt8 := [154, 0, 5, 2, 172, 42, 180, 0, 162, 27, 185, 1, 51, 2, 0, 192, 0, 157, 58, 4, 25, 4]
abbrev dktX1_shifts_1 : List UInt8 := dkwX1_shifts_1 ++ dktX1_shifts_2
def dkwX1_shifts_0 : List UInt8 := [27, 184, 1, 45, 153, 0, 22, 28, 184, 1, 48, 153, 0, 15, 29, 133, 10, 20, 1, 87, 184, 0, 5]
abbrev dktX1_shifts_0 : List UInt8 := dkwX1_shifts_0 ++ dktX1_shifts_1
theorem dksX1_shifts_0 : cX1_shifts.data.toList.drop 0 = dktX1_shifts_0 := by decide +kernel
theorem dksX1_shifts_1 : cX1_shifts.data.toList.drop 23 = dktX1_shifts_1 := dk_seg dksX1_shifts_0 23 rfl rfl
theorem dksX1_shifts_2 : cX1_shifts.data.toList.drop 45 = dktX1_shifts_2 := dk_seg dksX1_shifts_1 22 rfl rfl
theorem dksX1_shifts_3 : cX1_shifts.data.toList.drop 69 = dktX1_shifts_3 := dk_seg dksX1_shifts_2 24 rfl rfl
theorem dksX1_shifts_4 : cX1_shifts.data.toList.drop 93 = dktX1_shifts_4 := dk_seg dksX1_shifts_3 24 rfl rfl
theorem dksX1_shifts_5 : cX1_shifts.data.toList.drop 116 = dktX1_shifts_5 := dk_seg dksX1_shifts_4 23 rfl rfl
theorem dX1_shifts_0 : decode cX1_shifts 0 = .ok (.iload_n 1, 1) := dk_27 (dk_at dksX1_shifts_0 0 rfl rfl)
theorem dX1_shifts_1 : decode cX1_shifts 1 = .ok (.invokestatic 301, 3) := dk_184 1 45 (dk_at dksX1_shifts_0 1 rfl rfl)
theorem dX1_shifts_4 : decode cX1_shifts 4 = .ok (.ifCond .eq 22, 3) := dk_153 0 22 (dk_at dksX1_shifts_0 4 rfl rfl)
theorem dX1_shifts_7 : decode cX1_shifts 7 = .ok (.iload_n 2, 1) := dk_28 (dk_at dksX1_shifts_0 7 rfl rfl)
theorem dX1_shifts_8 : decode cX1_shifts 8 = .ok (.invokestatic 304, 3) := dk_184 1 48 (dk_at dksX1_shifts_0 8 rfl rfl)
theorem dX1_shifts_11 : decode cX1_shifts 11 = .ok (.ifCond .eq 15, 3) := dk_153 0 15 (dk_at dksX1_shifts_0 11 rfl rfl)
theorem dX1_shifts_14 : decode cX1_shifts 14 = .ok (.iload_n 3, 1) := dk_29 (dk_at dksX1_shifts_0 14 rfl rfl)
theorem dX1_shifts_15 : decode cX1_shifts 15 = .ok (.i2l, 1) := dk_133 (dk_at dksX1_shifts_0 15 rfl rfl)
theorem dX1_shifts_16 : decode cX1_shifts 16 = .ok (.lconst 1, 1) := dk_10 (dk_at dksX1_shifts_0 16 rfl rfl)
theorem dX1_shifts_17 : decode cX1_shifts 17 = .ok (.ldc2_w 343, 3) := dk_20 1 87 (dk_at dksX1_shifts_0 17 rfl rfl)
theorem dX1_shifts_20 : decode cX1_shifts 20 = .ok (.invokestatic 5, 3) := dk_184 0 5 (dk_at dksX1_shifts_0 20 rfl rfl)
theorem dX1_shifts_23 : decode cX1_shifts 23 = .ok (.ifCond .ne 5, 3) := dk_154 0 5 (dk_at dksX1_shifts_1 0 rfl rfl)
theorem dX1_shifts_26 : decode cX1_shifts 26 = .ok (.iconst (-1), 1) := dk_2 (dk_at dksX1_shifts_1 3 rfl rfl)
theorem dX1_shifts_27 : decode cX1_shifts 27 = .ok (.ireturn, 1) := dk_172 (dk_at dksX1_shifts_1 4 rfl rfl)
theorem dX1_shifts_28 : decode cX1_shifts 28 = .ok (.aload_n 0, 1) := dk_42 (dk_at dksX1_shifts_1 5 rfl rfl)
theorem dX1_shifts_29 : decode cX1_shifts 29 = .ok (.getfield 162, 3) := dk_180 0 162 (dk_at dksX1_shifts_1 6 rfl rfl)
theorem dX1_shifts_32 : decode cX1_shifts 32 = .ok (.iload_n 1, 1) := dk_27 (dk_at dksX1_shifts_1 9 rfl rfl)
theorem dX1_shifts_33 : decode cX1_shifts 33 = .ok (.invokeinterface 307 2, 5) := by decide +kernel
theorem dX1_shifts_38 : decode cX1_shifts 38 = .ok (.checkcast 157, 3) := dk_192 0 157 (dk_at dksX1_shifts_1 15 rfl rfl)
theorem dX1_shifts_41 : decode cX1_shifts 41 = .ok (.astore 4, 2) := dk_58 4 (dk_at dksX1_shifts_1 18 rfl rfl)
theorem dX1_shifts_43 : decode cX1_shifts 43 = .ok (.aload 4, 2) := dk_25 4 (dk_at dksX1_shifts_1 20 rfl rfl)
theorem dX1_shifts_45 : decode cX1_shifts 45 = .ok (.invokevirtual 310, 3) := dk_182 1 54 (dk_at dksX1_shifts_2 0 rfl rfl)
theorem dX1_shifts_48 : decode cX1_shifts 48 = .ok (.ifCond .ne 6, 3) := dk_154 0 6 (dk_at dksX1_shifts_2 3 rfl rfl)
theorem dX1_shifts_51 : decode cX1_shifts 51 = .ok (.bipush (-2), 2) := dk_16 254 (dk_at dksX1_shifts_2 6 rfl rfl)
theorem dX1_shifts_53 : decode cX1_shifts 53 = .ok (.ireturn, 1) := dk_172 (dk_at dksX1_shifts_2 8 rfl rfl)
theorem dX1_shifts_54 : decode cX1_shifts 54 = .ok (.aload_n 0, 1) := dk_42 (dk_at dksX1_shifts_2 9 rfl rfl)
theorem dX1_shifts_55 : decode cX1_shifts 55 = .ok (.getfield 315, 3) := dk_180 1 59 (dk_at dksX1_shifts_2 10 rfl rfl)
theorem dX1_shifts_58 : decode cX1_shifts 58 = .ok (.lstore 5, 2) := dk_55 5 (dk_at dksX1_shifts_2 13 rfl rfl)
theorem dX1_shifts_60 : decode cX1_shifts 60 = .ok (.iconst 0, 1) := dk_3 (dk_at dksX1_shifts_2 15 rfl rfl)
theorem dX1_shifts_61 : decode cX1_shifts 61 = .ok (.istore 7, 2) := dk_54 7 (dk_at dksX1_shifts_2 16 rfl rfl)
theorem dX1_shifts_63 : decode cX1_shifts 63 = .ok (.iload 7, 2) := dk_21 7 (dk_at dksX1_shifts_2 18 rfl rfl)
theorem dX1_shifts_65 : decode cX1_shifts 65 = .ok (.iload_n 3, 1) := dk_29 (dk_at dksX1_shifts_2 20 rfl rfl)
theorem dX1_shifts_66 : decode cX1_shifts 66 = .ok (.if_icmp .ge 27, 3) := dk_162 0 27 (dk_at dksX1_shifts_2 21 rfl rfl)
theorem dX1_shifts_69 : decode cX1_shifts 69 = .ok (.aload 4, 2) := dk_25 4 (dk_at dksX1_shifts_3 0 rfl rfl)
theorem dX1_shifts_71 : decode cX1_shifts 71 = .ok (.iload_n 2, 1) := dk_28 (dk_at dksX1_shifts_3 2 rfl rfl)
theorem dX1_shifts_72 : decode cX1_shifts 72 = .ok (.invokevirtual 318, 3) := dk_182 1 62 (dk_at dksX1_shifts_3 3 rfl rfl)
theorem dX1_shifts_75 : decode cX1_shifts 75 = .ok (.istore 8, 2) := dk_54 8 (dk_at dksX1_shifts_3 6 rfl rfl)
theorem dX1_shifts_77 : decode cX1_shifts 77 = .ok (.aload 4, 2) := dk_25 4 (dk_at dksX1_shifts_3 8 rfl rfl)
theorem dX1_shifts_79 : decode cX1_shifts 79 = .ok (.iconst 1, 1) := dk_4 (dk_at dksX1_shifts_3 10 rfl rfl)
theorem dX1_shifts_80 : decode cX1_shifts 80 = .ok (.iload_n 2, 1) := dk_28 (dk_at dksX1_shifts_3 11 rfl rfl)
theorem dX1_shifts_81 : decode cX1_shifts 81 = .ok (.isub, 1) := dk_100 (dk_at dksX1_shifts_3 12 rfl rfl)
theorem dX1_shifts_82 : decode cX1_shifts 82 = .ok (.iload 8, 2) := dk_21 8 (dk_at dksX1_shifts_3 13 rfl rfl)
theorem dX1_shifts_84 : decode cX1_shifts 84 = .ok (.invokevirtual 312, 3) := dk_182 1 56 (dk_at dksX1_shifts_3 15 rfl rfl)
theorem dX1_shifts_87 : decode cX1_shifts 87 = .ok (.iinc 7 1, 3) := dk_132 7 1 (dk_at dksX1_shifts_3 18 rfl rfl)
theorem dX1_shifts_90 : decode cX1_shifts 90 = .ok (.goto (-27), 3) := dk_167 255 229 (dk_at dksX1_shifts_3 21 rfl rfl)
theorem dX1_shifts_93 : decode cX1_shifts 93 = .ok (.aload 4, 2) := dk_25 4 (dk_at dksX1_shifts_4 0 rfl rfl)
theorem dX1_shifts_95 : decode cX1_shifts 95 = .ok (.aload_n 0, 1) := dk_42 (dk_at dksX1_shifts_4 2 rfl rfl)
theorem dX1_shifts_96 : decode cX1_shifts 96 = .ok (.getfield 154, 3) := dk_180 0 154 (dk_at dksX1_shifts_4 3 rfl rfl)
theorem dX1_shifts_99 : decode cX1_shifts 99 = .ok (.invokevirtual 345, 3) := dk_182 1 89 (dk_at dksX1_shifts_4 6 rfl rfl)
theorem dX1_shifts_102 : decode cX1_shifts 102 = .ok (.aload_n 0, 1) := dk_42 (dk_at dksX1_shifts_4 9 rfl rfl)
theorem dX1_shifts_103 : decode cX1_shifts 103 = .ok (.iconst 0, 1) := dk_3 (dk_at dksX1_shifts_4 10 rfl rfl)
theorem dX1_shifts_104 : decode cX1_shifts 104 = .ok (.putfield 199, 3) := dk_181 0 199 (dk_at dksX1_shifts_4 11 rfl rfl)
theorem dX1_shifts_107 : decode cX1_shifts 107 = .ok (.aload_n 0, 1) := dk_42 (dk_at dksX1_shifts_4 14 rfl rfl)
theorem dX1_shifts_108 : decode cX1_shifts 108 = .ok (.aload_n 0, 1) := dk_42 (dk_at dksX1_shifts_4 15 rfl rfl)
theorem dX1_shifts_109 : decode cX1_shifts 109 = .ok (.getfield 154, 3) := dk_180 0 154 (dk_at dksX1_shifts_4 16 rfl rfl)
theorem dX1_shifts_112 : decode cX1_shifts 112 = .ok (.invokevirtual 285, 3) := dk_182 1 29 (dk_at dksX1_shifts_4 19 rfl rfl)
theorem dX1_shifts_115 : decode cX1_shifts 115 = .ok (.aload_n 0, 1) := dk_42 (dk_at dksX1_shifts_4 22 rfl rfl)
theorem dX1_shifts_116 : decode cX1_shifts 116 = .ok (.getfield 315, 3) := dk_180 1 59 (dk_at dksX1_shifts_5 0 rfl rfl)
theorem dX1_shifts_119 : decode cX1_shifts 119 = .ok (.lload 5, 2) := dk_22 5 (dk_at dksX1_shifts_5 3 rfl rfl)
theorem dX1_shifts_121 : decode cX1_shifts 121 = .ok (.lsub, 1) := dk_101 (dk_at dksX1_shifts_5 5 rfl rfl)
theorem dX1_shifts_122 : decode cX1_shifts 122 = .ok (.l2i, 1) := dk_136 (dk_at dksX1_shifts_5 6 rfl rfl)
theorem dX1_shifts_123 : decode cX1_shifts 123 = .ok (.ireturn, 1) := dk_172 (dk_at dksX1_shifts_5 7 rfl rfl)
def dkwX1_clears_1 : List UInt8 := [182, 1, 54, 61, 42, 180, 0, 162, 27, 185, 1, 51, 2, 0, 192, 0, 157, 182, 1, 92, 28, 172]
abbrev dktX1_clears_1 : List UInt8 := dkwX1_clears_1 ++ []
def dkwX1_clears_0 : List UInt8 := [27, 184, 1, 45, 154, 0, 5, 2, 172, 42, 180, 0, 162, 27, 185, 1, 51, 2, 0, 192, 0, 157]
abbrev dktX1_clears_0 : List UInt8 := dkwX1_clears_0 ++ dktX1_clears_1
theorem dksX1_clears_0 : cX1_clears.data.toList.drop 0 = dktX1_clears_0 := by decide +kernel
theorem dksX1_clears_1 : cX1_clears.data.toList.drop 22 = dktX1_clears_1 := dk_seg dksX1_clears_0 22 rfl rfl
theorem dX1_clears_0 : decode cX1_clears 0 = .ok (.iload_n 1, 1) := dk_27 (dk_at dksX1_clears_0 0 rfl rfl)
theorem dX1_clears_1 : decode cX1_clears 1 = .ok (.invokestatic 301, 3) := dk_184 1 45 (dk_at dksX1_clears_0 1 rfl rfl)
theorem dX1_clears_4 : decode cX1_clears 4 = .ok (.ifCond .ne 5, 3) := dk_154 0 5 (dk_at dksX1_clears_0 4 rfl rfl)
theorem dX1_clears_7 : decode cX1_clears 7 = .ok (.iconst (-1), 1) := dk_2 (dk_at dksX1_clears_0 7 rfl rfl)
theorem dX1_clears_8 : decode cX1_clears 8 = .ok (.ireturn, 1) := dk_172 (dk_at dksX1_clears_0 8 rfl rfl)
theorem dX1_clears_9 : decode cX1_clears 9 = .ok (.aload_n 0, 1) := dk_42 (dk_at dksX1_clears_0 9 rfl rfl)
theorem dX1_clears_10 : decode cX1_clears 10 = .ok (.getfield 162, 3) := dk_180 0 162 (dk_at dksX1_clears_0 10 rfl rfl)
theorem dX1_clears_13 : decode cX1_clears 13 = .ok (.iload_n 1, 1) := dk_27 (dk_at dksX1_clears_0 13 rfl rfl)
theorem dX1_clears_14 : decode cX1_clears 14 = .ok (.invokeinterface 307 2, 5) := by decide +kernel
theorem dX1_clears_19 : decode cX1_clears 19 = .ok (.checkcast 157, 3) := dk_192 0 157 (dk_at dksX1_clears_0 19 rfl rfl)
theorem dX1_clears_22 : decode cX1_clears 22 = .ok (.invokevirtual 310, 3) := dk_182 1 54 (dk_at dksX1_clears_1 0 rfl rfl)
theorem dX1_clears_25 : decode cX1_clears 25 = .ok (.istore_n 2, 1) := dk_61 (dk_at dksX1_clears_1 3 rfl rfl)
theorem dX1_clears_26 : decode cX1_clears 26 = .ok (.aload_n 0, 1) := dk_42 (dk_at dksX1_clears_1 4 rfl rfl)
theorem dX1_clears_27 : decode cX1_clears 27 = .ok (.getfield 162, 3) := dk_180 0 162 (dk_at dksX1_clears_1 5 rfl rfl)
theorem dX1_clears_30 : decode cX1_clears 30 = .ok (.iload_n 1, 1) := dk_27 (dk_at dksX1_clears_1 8 rfl rfl)
theorem dX1_clears_31 : decode cX1_clears 31 = .ok (.invokeinterface 307 2, 5) := by decide +kernel
theorem dX1_clears_36 : decode cX1_clears 36 = .ok (.checkcast 157, 3) := dk_192 0 157 (dk_at dksX1_clears_1 14 rfl rfl)
theorem dX1_clears_39 : decode cX1_clears 39 = .ok (.invokevirtual 348, 3) := dk_182 1 92 (dk_at dksX1_clears_1 17 rfl rfl)
theorem dX1_clears_42 : decode cX1_clears 42 = .ok (.iload_n 2, 1) := dk_28 (dk_at dksX1_clears_1 20 rfl rfl)
theorem dX1_clears_43 : decode cX1_clears 43 = .ok (.ireturn, 1) := dk_172 (dk_at dksX1_clears_1 21 rfl rfl)
def dkwX1_run_7 : List UInt8 := [182, 0, 202, 42, 42, 180, 0, 154, 182, 1, 29, 21, 7, 172]
abbrev dktX1_run_7 : List UInt8 := dkwX1_run_7 ++ []
def dkwX1_run_6 : List UInt8 := [42, 21, 8, 153, 0, 7, 9, 167, 0, 4, 10, 182, 0, 202, 42, 42, 180, 1, 59, 22, 5, 101]
abbrev dktX1_run_6 : List UInt8 := dkwX1_run_6 ++ dktX1_run_7
def dkwX1_run_5 : List UInt8 := [167, 0, 4, 3, 96, 54, 7, 167, 255, 201, 25, 4, 42, 180, 0, 154, 182, 1, 89, 42, 3, 181, 0, 199]
abbrev dktX1_run_5 : List UInt8 := dkwX1_run_5 ++ dktX1_run_6
def dkwX1_run_4 : List UInt8 := [182, 1, 116, 192, 0, 44, 182, 0, 67, 182, 1, 119, 54, 8, 21, 7, 21, 8, 153, 0, 7, 4]
abbrev dktX1_run_4 : List UInt8 := dkwX1_run_4 ++ dktX1_run_5
def dkwX1_run_3 : List UInt8 := [153, 0, 56, 45, 182, 1, 113, 154, 0, 49, 42, 25, 4, 45, 182, 1, 116, 192, 0, 44, 182, 0, 67, 45]
abbrev dktX1_run_3 : List UInt8 := dkwX1_run_3 ++ dktX1_run_4
def dkwX1_run_2 : List UInt8 := [185, 1, 51, 2, 0, 192, 0, 157, 58, 4, 42, 180, 1, 59, 55, 5, 3, 54, 7, 4, 54, 8, 21, 8]
abbrev dktX1_run_2 : List UInt8 := dkwX1_run_2 ++ dktX1_run_3
def dkwX1_run_1 : List UInt8 := [78, 167, 0, 14, 58, 4, 16, 235, 25, 4, 180, 1, 10, 100, 172, 42, 180, 0, 162, 27]
abbrev dktX1_run_1 : List UInt8 := dkwX1_run_1 ++ dktX1_run_2
def dkwX1_run_0 : List UInt8 := [42, 180, 0, 206, 61, 42, 3, 181, 0, 206, 27, 184, 1, 45, 154, 0, 5, 2, 172, 42, 28, 182, 1, 109]
abbrev dktX1_run_0 : List UInt8 := dkwX1_run_0 ++ dktX1_run_1
theorem dksX1_run_0 : cX1_run.data.toList.drop 0 = dktX1_run_0 := by decide +kernel
theorem dksX1_run_1 : cX1_run.data.toList.drop 24 = dktX1_run_1 := dk_seg dksX1_run_0 24 rfl rfl
theorem dksX1_run_2 : cX1_run.data.toList.drop 44 = dktX1_run_2 := dk_seg dksX1_run_1 20 rfl rfl
theorem dksX1_run_3 : cX1_run.data.toList.drop 68 = dktX1_run_3 := dk_seg dksX1_run_2 24 rfl rfl
theorem dksX1_run_4 : cX1_run.data.toList.drop 92 = dktX1_run_4 := dk_seg dksX1_run_3 24 rfl rfl
theorem dksX1_run_5 : cX1_run.data.toList.drop 114 = dktX1_run_5 := dk_seg dksX1_run_4 22 rfl rfl
theorem dksX1_run_6 : cX1_run.data.toList.drop 138 = dktX1_run_6 := dk_seg dksX1_run_5 24 rfl rfl
theorem dksX1_run_7 : cX1_run.data.toList.drop 160 = dktX1_run_7 := dk_seg dksX1_run_6 22 rfl rfl
theorem dX1_run_0 : decode cX1_run 0 = .ok (.aload_n 0, 1) := dk_42 (dk_at dksX1_run_0 0 rfl rfl)
theorem dX1_run_1 : decode cX1_run 1 = .ok (.getfield 206, 3) := dk_180 0 206 (dk_at dksX1_run_0 1 rfl rfl)
theorem dX1_run_4 : decode cX1_run 4 = .ok (.istore_n 2, 1) := dk_61 (dk_at dksX1_run_0 4 rfl rfl)
theorem dX1_run_5 : decode cX1_run 5 = .ok (.aload_n 0, 1) := dk_42 (dk_at dksX1_run_0 5 rfl rfl)
theorem dX1_run_6 : decode cX1_run 6 = .ok (.iconst 0, 1) := dk_3 (dk_at dksX1_run_0 6 rfl rfl)
theorem dX1_run_7 : decode cX1_run 7 = .ok (.putfield 206, 3) := dk_181 0 206 (dk_at dksX1_run_0 7 rfl rfl)
theorem dX1_run_10 : decode cX1_run 10 = .ok (.iload_n 1, 1) := dk_27 (dk_at dksX1_run_0 10 rfl rfl)
theorem dX1_run_11 : decode cX1_run 11 = .ok (.invokestatic 301, 3) := dk_184 1 45 (dk_at dksX1_run_0 11 rfl rfl)
theorem dX1_run_14 : decode cX1_run 14 = .ok (.ifCond .ne 5, 3) := dk_154 0 5 (dk_at dksX1_run_0 14 rfl rfl)
theorem dX1_run_17 : decode cX1_run 17 = .ok (.iconst (-1), 1) := dk_2 (dk_at dksX1_run_0 17 rfl rfl)
theorem dX1_run_18 : decode cX1_run 18 = .ok (.ireturn, 1) := dk_172 (dk_at dksX1_run_0 18 rfl rfl)
theorem dX1_run_19 : decode cX1_run 19 = .ok (.aload_n 0, 1) := dk_42 (dk_at dksX1_run_0 19 rfl rfl)
theorem dX1_run_20 : decode cX1_run 20 = .ok (.iload_n 2, 1) := dk_28 (dk_at dksX1_run_0 20 rfl rfl)
theorem dX1_run_21 : decode cX1_run 21 = .ok (.invokevirtual 365, 3) := dk_182 1 109 (dk_at dksX1_run_0 21 rfl rfl)
theorem dX1_run_24 : decode cX1_run 24 = .ok (.astore_n 3, 1) := dk_78 (dk_at dksX1_run_1 0 rfl rfl)
theorem dX1_run_25 : decode cX1_run 25 = .ok (.goto 14, 3) := dk_167 0 14 (dk_at dksX1_run_1 1 rfl rfl)
theorem dX1_run_28 : decode cX1_run 28 = .ok (.astore 4, 2) := dk_58 4 (dk_at dksX1_run_1 4 rfl rfl)
theorem dX1_run_30 : decode cX1_run 30 = .ok (.bipush (-21), 2) := dk_16 235 (dk_at dksX1_run_1 6 rfl rfl)
theorem dX1_run_32 : decode cX1_run 32 = .ok (.aload 4, 2) := dk_25 4 (dk_at dksX1_run_1 8 rfl rfl)
theorem dX1_run_34 : decode cX1_run 34 = .ok (.getfield 266, 3) := dk_180 1 10 (dk_at dksX1_run_1 10 rfl rfl)
theorem dX1_run_37 : decode cX1_run 37 = .ok (.isub, 1) := dk_100 (dk_at dksX1_run_1 13 rfl rfl)
theorem dX1_run_38 : decode cX1_run 38 = .ok (.ireturn, 1) := dk_172 (dk_at dksX1_run_1 14 rfl rfl)
theorem dX1_run_39 : decode cX1_run 39 = .ok (.aload_n 0, 1) := dk_42 (dk_at dksX1_run_1 15 rfl rfl)
theorem dX1_run_40 : decode cX1_run 40 = .ok (.getfield 162, 3) := dk_180 0 162 (dk_at dksX1_run_1 16 rfl rfl)
theorem dX1_run_43 : decode cX1_run 43 = .ok (.iload_n 1, 1) := dk_27 (dk_at dksX1_run_1 19 rfl rfl)
theorem dX1_run_44 : decode cX1_run 44 = .ok (.invokeinterface 307 2, 5) := by decide +kernel
theorem dX1_run_49 : decode cX1_run 49 = .ok (.checkcast 157, 3) := dk_192 0 157 (dk_at dksX1_run_2 5 rfl rfl)
theorem dX1_run_52 : decode cX1_run 52 = .ok (.astore 4, 2) := dk_58 4 (dk_at dksX1_run_2 8 rfl rfl)
theorem dX1_run_54 : decode cX1_run 54 = .ok (.aload_n 0, 1) := dk_42 (dk_at dksX1_run_2 10 rfl rfl)
theorem dX1_run_55 : decode cX1_run 55 = .ok (.getfield 315, 3) := dk_180 1 59 (dk_at dksX1_run_2 11 rfl rfl)
theorem dX1_run_58 : decode cX1_run 58 = .ok (.lstore 5, 2) := dk_55 5 (dk_at dksX1_run_2 14 rfl rfl)
theorem dX1_run_60 : decode cX1_run 60 = .ok (.iconst 0, 1) := dk_3 (dk_at dksX1_run_2 16 rfl rfl)
theorem dX1_run_61 : decode cX1_run 61 = .ok (.istore 7, 2) := dk_54 7 (dk_at dksX1_run_2 17 rfl rfl)
theorem dX1_run_63 : decode cX1_run 63 = .ok (.iconst 1, 1) := dk_4 (dk_at dksX1_run_2 19 rfl rfl)
theorem dX1_run_64 : decode cX1_run 64 = .ok (.istore 8, 2) := dk_54 8 (dk_at dksX1_run_2 20 rfl rfl)
theorem dX1_run_66 : decode cX1_run 66 = .ok (.iload 8, 2) := dk_21 8 (dk_at dksX1_run_2 22 rfl rfl)
theorem dX1_run_68 : decode cX1_run 68 = .ok (.ifCond .eq 56, 3) := dk_153 0 56 (dk_at dksX1_run_3 0 rfl rfl)
theorem dX1_run_71 : decode cX1_run 71 = .ok (.aload_n 3, 1) := dk_45 (dk_at dksX1_run_3 3 rfl rfl)
theorem dX1_run_72 : decode cX1_run 72 = .ok (.invokevirtual 369, 3) := dk_182 1 113 (dk_at dksX1_run_3 4 rfl rfl)
theorem dX1_run_75 : decode cX1_run 75 = .ok (.ifCond .ne 49, 3) := dk_154 0 49 (dk_at dksX1_run_3 7 rfl rfl)
theorem dX1_run_78 : decode cX1_run 78 = .ok (.aload_n 0, 1) := dk_42 (dk_at dksX1_run_3 10 rfl rfl)
theorem dX1_run_79 : decode cX1_run 79 = .ok (.aload 4, 2) := dk_25 4 (dk_at dksX1_run_3 11 rfl rfl)
theorem dX1_run_81 : decode cX1_run 81 = .ok (.aload_n 3, 1) := dk_45 (dk_at dksX1_run_3 13 rfl rfl)
theorem dX1_run_82 : decode cX1_run 82 = .ok (.invokevirtual 372, 3) := dk_182 1 116 (dk_at dksX1_run_3 14 rfl rfl)
theorem dX1_run_85 : decode cX1_run 85 = .ok (.checkcast 44, 3) := dk_192 0 44 (dk_at dksX1_run_3 17 rfl rfl)
theorem dX1_run_88 : decode cX1_run 88 = .ok (.invokevirtual 67, 3) := dk_182 0 67 (dk_at dksX1_run_3 20 rfl rfl)
theorem dX1_run_91 : decode cX1_run 91 = .ok (.aload_n 3, 1) := dk_45 (dk_at dksX1_run_3 23 rfl rfl)
theorem dX1_run_92 : decode cX1_run 92 = .ok (.invokevirtual 372, 3) := dk_182 1 116 (dk_at dksX1_run_4 0 rfl rfl)
theorem dX1_run_95 : decode cX1_run 95 = .ok (.checkcast 44, 3) := dk_192 0 44 (dk_at dksX1_run_4 3 rfl rfl)
theorem dX1_run_98 : decode cX1_run 98 = .ok (.invokevirtual 67, 3) := dk_182 0 67 (dk_at dksX1_run_4 6 rfl rfl)
theorem dX1_run_101 : decode cX1_run 101 = .ok (.invokevirtual 375, 3) := dk_182 1 119 (dk_at dksX1_run_4 9 rfl rfl)
theorem dX1_run_104 : decode cX1_run 104 = .ok (.istore 8, 2) := dk_54 8 (dk_at dksX1_run_4 12 rfl rfl)
theorem dX1_run_106 : decode cX1_run 106 = .ok (.iload 7, 2) := dk_21 7 (dk_at dksX1_run_4 14 rfl rfl)
theorem dX1_run_108 : decode cX1_run 108 = .ok (.iload 8, 2) := dk_21 8 (dk_at dksX1_run_4 16 rfl rfl)
theorem dX1_run_110 : decode cX1_run 110 = .ok (.ifCond .eq 7, 3) := dk_153 0 7 (dk_at dksX1_run_4 18 rfl rfl)
theorem dX1_run_113 : decode cX1_run 113 = .ok (.iconst 1, 1) := dk_4 (dk_at dksX1_run_4 21 rfl rfl)
theorem dX1_run_114 : decode cX1_run 114 = .ok (.goto 4, 3) := dk_167 0 4 (dk_at dksX1_run_5 0 rfl rfl)
theorem dX1_run_117 : decode cX1_run 117 = .ok (.iconst 0, 1) := dk_3 (dk_at dksX1_run_5 3 rfl rfl)
theorem dX1_run_118 : decode cX1_run 118 = .ok (.iadd, 1) := dk_96 (dk_at dksX1_run_5 4 rfl rfl)
theorem dX1_run_119 : decode cX1_run 119 = .ok (.istore 7, 2) := dk_54 7 (dk_at dksX1_run_5 5 rfl rfl)
theorem dX1_run_121 : decode cX1_run 121 = .ok (.goto (-55), 3) := dk_167 255 201 (dk_at dksX1_run_5 7 rfl rfl)
theorem dX1_run_124 : decode cX1_run 124 = .ok (.aload 4, 2) := dk_25 4 (dk_at dksX1_run_5 10 rfl rfl)
theorem dX1_run_126 : decode cX1_run 126 = .ok (.aload_n 0, 1) := dk_42 (dk_at dksX1_run_5 12 rfl rfl)
theorem dX1_run_127 : decode cX1_run 127 = .ok (.getfield 154, 3) := dk_180 0 154 (dk_at dksX1_run_5 13 rfl rfl)
theorem dX1_run_130 : decode cX1_run 130 = .ok (.invokevirtual 345, 3) := dk_182 1 89 (dk_at dksX1_run_5 16 rfl rfl)
theorem dX1_run_133 : decode cX1_run 133 = .ok (.aload_n 0, 1) := dk_42 (dk_at dksX1_run_5 19 rfl rfl)
theorem dX1_run_134 : decode cX1_run 134 = .ok (.iconst 0, 1) := dk_3 (dk_at dksX1_run_5 20 rfl rfl)
theorem dX1_run_135 : decode cX1_run 135 = .ok (.putfield 199, 3) := dk_181 0 199 (dk_at dksX1_run_5 21 rfl rfl)
theorem dX1_run_138 : decode cX1_run 138 = .ok (.aload_n 0, 1) := dk_42 (dk_at dksX1_run_6 0 rfl rfl)
theorem dX1_run_139 : decode cX1_run 139 = .ok (.iload 8, 2) := dk_21 8 (dk_at dksX1_run_6 1 rfl rfl)
theorem dX1_run_141 : decode cX1_run 141 = .ok (.ifCond .eq 7, 3) := dk_153 0 7 (dk_at dksX1_run_6 3 rfl rfl)
theorem dX1_run_144 : decode cX1_run 144 = .ok (.lconst 0, 1) := dk_9 (dk_at dksX1_run_6 6 rfl rfl)
theorem dX1_run_145 : decode cX1_run 145 = .ok (.goto 4, 3) := dk_167 0 4 (dk_at dksX1_run_6 7 rfl rfl)
theorem dX1_run_148 : decode cX1_run 148 = .ok (.lconst 1, 1) := dk_10 (dk_at dksX1_run_6 10 rfl rfl)
theorem dX1_run_149 : decode cX1_run 149 = .ok (.invokevirtual 202, 3) := dk_182 0 202 (dk_at dksX1_run_6 11 rfl rfl)
theorem dX1_run_152 : decode cX1_run 152 = .ok (.aload_n 0, 1) := dk_42 (dk_at dksX1_run_6 14 rfl rfl)
theorem dX1_run_153 : decode cX1_run 153 = .ok (.aload_n 0, 1) := dk_42 (dk_at dksX1_run_6 15 rfl rfl)
theorem dX1_run_154 : decode cX1_run 154 = .ok (.getfield 315, 3) := dk_180 1 59 (dk_at dksX1_run_6 16 rfl rfl)
theorem dX1_run_157 : decode cX1_run 157 = .ok (.lload 5, 2) := dk_22 5 (dk_at dksX1_run_6 19 rfl rfl)
theorem dX1_run_159 : decode cX1_run 159 = .ok (.lsub, 1) := dk_101 (dk_at dksX1_run_6 21 rfl rfl)
theorem dX1_run_160 : decode cX1_run 160 = .ok (.invokevirtual 202, 3) := dk_182 0 202 (dk_at dksX1_run_7 0 rfl rfl)
theorem dX1_run_163 : decode cX1_run 163 = .ok (.aload_n 0, 1) := dk_42 (dk_at dksX1_run_7 3 rfl rfl)
theorem dX1_run_164 : decode cX1_run 164 = .ok (.aload_n 0, 1) := dk_42 (dk_at dksX1_run_7 4 rfl rfl)
theorem dX1_run_165 : decode cX1_run 165 = .ok (.getfield 154, 3) := dk_180 0 154 (dk_at dksX1_run_7 5 rfl rfl)
theorem dX1_run_168 : decode cX1_run 168 = .ok (.invokevirtual 285, 3) := dk_182 1 29 (dk_at dksX1_run_7 8 rfl rfl)
theorem dX1_run_171 : decode cX1_run 171 = .ok (.iload 7, 2) := dk_21 7 (dk_at dksX1_run_7 11 rfl rfl)
theorem dX1_run_173 : decode cX1_run 173 = .ok (.ireturn, 1) := dk_172 (dk_at dksX1_run_7 13 rfl rfl)
def dkwX1_readActs_8 : List UInt8 := [21, 5, 184, 0, 43, 182, 1, 105, 87, 167, 255, 69]
abbrev dktX1_readActs_8 : List UInt8 := dkwX1_readActs_8 ++ []
def dkwX1_readActs_7 : List UInt8 := [154, 0, 12, 187, 0, 244, 89, 29, 183, 0, 246, 191, 44, 21, 4, 184, 0, 43, 182, 1, 105, 87, 44]
abbrev dktX1_readActs_7 : List UInt8 := dkwX1_readActs_7 ++ dktX1_readActs_8
def dkwX1_readActs_6 : List UInt8 := [96, 16, 48, 100, 54, 5, 132, 6, 1, 132, 3, 1, 167, 255, 194, 21, 7, 153, 0, 17, 21, 6]
abbrev dktX1_readActs_6 : List UInt8 := dkwX1_readActs_6 ++ dktX1_readActs_7
def dkwX1_readActs_5 : List UInt8 := [7, 160, 0, 12, 187, 0, 244, 89, 29, 183, 0, 246, 191, 16, 10, 21, 5, 104, 42, 29, 27, 182, 0, 237]
abbrev dktX1_readActs_5 : List UInt8 := dkwX1_readActs_5 ++ dktX1_readActs_6
def dkwX1_readActs_4 : List UInt8 := [153, 0, 63, 42, 29, 27, 182, 0, 237, 133, 20, 0, 240, 20, 1, 103, 184, 0, 5, 153, 0, 44, 21, 6]
abbrev dktX1_readActs_4 : List UInt8 := dkwX1_readActs_4 ++ dktX1_readActs_5
def dkwX1_readActs_3 : List UInt8 := [21, 4, 16, 102, 159, 0, 10, 21, 4, 16, 98, 160, 0, 7, 4, 167, 0, 4, 3, 54, 7, 21, 7]
abbrev dktX1_readActs_3 : List UInt8 := dkwX1_readActs_3 ++ dktX1_readActs_4
def dkwX1_readActs_2 : List UInt8 := [182, 1, 98, 156, 0, 12, 187, 0, 244, 89, 29, 183, 0, 246, 191, 132, 3, 1, 3, 54, 5, 3, 54, 6]
abbrev dktX1_readActs_2 : List UInt8 := dkwX1_readActs_2 ++ dktX1_readActs_3
def dkwX1_readActs_1 : List UInt8 := [167, 255, 242, 29, 27, 160, 0, 5, 44, 176, 42, 29, 27, 182, 0, 237, 54, 4, 19, 1, 96, 21, 4, 146]
abbrev dktX1_readActs_1 : List UInt8 := dkwX1_readActs_1 ++ dktX1_readActs_2
def dkwX1_readActs_0 : List UInt8 := [187, 0, 41, 89, 183, 1, 95, 77, 3, 62, 42, 29, 27, 182, 0, 237, 16, 32, 160, 0, 9, 132, 3, 1]
abbrev dktX1_readActs_0 : List UInt8 := dkwX1_readActs_0 ++ dktX1_readActs_1
theorem dksX1_readActs_0 : cX1_readActs.data.toList.drop 0 = dktX1_readActs_0 := by decide +kernel
theorem dksX1_readActs_1 : cX1_readActs.data.toList.drop 24 = dktX1_readActs_1 := dk_seg dksX1_readActs_0 24 rfl rfl
theorem dksX1_readActs_2 : cX1_readActs.data.toList.drop 48 = dktX1_readActs_2 := dk_seg dksX1_readActs_1 24 rfl rfl
theorem dksX1_readActs_3 : cX1_readActs.data.toList.drop 72 = dktX1_readActs_3 := dk_seg dksX1_readActs_2 24 rfl rfl
theorem dksX1_readActs_4 : cX1_readActs.data.toList.drop 95 = dktX1_readActs_4 := dk_seg dksX1_readActs_3 23 rfl rfl
theorem dksX1_readActs_5 : cX1_readActs.data.toList.drop 119 = dktX1_readActs_5 := dk_seg dksX1_readActs_4 24 rfl rfl
theorem dksX1_readActs_6 : cX1_readActs.data.toList.drop 143 = dktX1_readActs_6 := dk_seg dksX1_readActs_5 24 rfl rfl
theorem dksX1_readActs_7 : cX1_readActs.data.toList.drop 165 = dktX1_readActs_7 := dk_seg dksX1_readActs_6 22 rfl rfl
theorem dksX1_readActs_8 : cX1_readActs.data.toList.drop 188 = dktX1_readActs_8 := dk_seg dksX1_readActs_7 23 rfl rfl
theorem dX1_readActs_0 : decode cX1_readActs 0 = .ok (.new 41, 3) := dk_187 0 41 (dk_at dksX1_readActs_0 0 rfl rfl)
theorem dX1_readActs_3 : decode cX1_readActs 3 = .ok (.dup, 1) := dk_89 (dk_at dksX1_readActs_0 3 rfl rfl)
theorem dX1_readActs_4 : decode cX1_readActs 4 = .ok (.invokespecial 351, 3) := dk_183 1 95 (dk_at dksX1_readActs_0 4 rfl rfl)
theorem dX1_readActs_7 : decode cX1_readActs 7 = .ok (.astore_n 2, 1) := dk_77 (dk_at dksX1_readActs_0 7 rfl rfl)
theorem dX1_readActs_8 : decode cX1_readActs 8 = .ok (.iconst 0, 1) := dk_3 (dk_at dksX1_readActs_0 8 rfl rfl)
theorem dX1_readActs_9 : decode cX1_readActs 9 = .ok (.istore_n 3, 1) := dk_62 (dk_at dksX1_readActs_0 9 rfl rfl)
theorem dX1_readActs_10 : decode cX1_readActs 10 = .ok (.aload_n 0, 1) := dk_42 (dk_at dksX1_readActs_0 10 rfl rfl)
theorem dX1_readActs_11 : decode cX1_readActs 11 = .ok (.iload_n 3, 1) := dk_29 (dk_at dksX1_readActs_0 11 rfl rfl)
theorem dX1_readActs_12 : decode cX1_readActs 12 = .ok (.iload_n 1, 1) := dk_27 (dk_at dksX1_readActs_0 12 rfl rfl)
theorem dX1_readActs_13 : decode cX1_readActs 13 = .ok (.invokevirtual 237, 3) := dk_182 0 237 (dk_at dksX1_readActs_0 13 rfl rfl)
theorem dX1_readActs_16 : decode cX1_readActs 16 = .ok (.bipush 32, 2) := dk_16 32 (dk_at dksX1_readActs_0 16 rfl rfl)
theorem dX1_readActs_18 : decode cX1_readActs 18 = .ok (.if_icmp .ne 9, 3) := dk_160 0 9 (dk_at dksX1_readActs_0 18 rfl rfl)
theorem dX1_readActs_21 : decode cX1_readActs 21 = .ok (.iinc 3 1, 3) := dk_132 3 1 (dk_at dksX1_readActs_0 21 rfl rfl)
theorem dX1_readActs_24 : decode cX1_readActs 24 = .ok (.goto (-14), 3) := dk_167 255 242 (dk_at dksX1_readActs_1 0 rfl rfl)
theorem dX1_readActs_27 : decode cX1_readActs 27 = .ok (.iload_n 3, 1) := dk_29 (dk_at dksX1_readActs_1 3 rfl rfl)
theorem dX1_readActs_28 : decode cX1_readActs 28 = .ok (.iload_n 1, 1) := dk_27 (dk_at dksX1_readActs_1 4 rfl rfl)
theorem dX1_readActs_29 : decode cX1_readActs 29 = .ok (.if_icmp .ne 5, 3) := dk_160 0 5 (dk_at dksX1_readActs_1 5 rfl rfl)
theorem dX1_readActs_32 : decode cX1_readActs 32 = .ok (.aload_n 2, 1) := dk_44 (dk_at dksX1_readActs_1 8 rfl rfl)
theorem dX1_readActs_33 : decode cX1_readActs 33 = .ok (.areturn, 1) := dk_176 (dk_at dksX1_readActs_1 9 rfl rfl)
theorem dX1_readActs_34 : decode cX1_readActs 34 = .ok (.aload_n 0, 1) := dk_42 (dk_at dksX1_readActs_1 10 rfl rfl)
theorem dX1_readActs_35 : decode cX1_readActs 35 = .ok (.iload_n 3, 1) := dk_29 (dk_at dksX1_readActs_1 11 rfl rfl)
theorem dX1_readActs_36 : decode cX1_readActs 36 = .ok (.iload_n 1, 1) := dk_27 (dk_at dksX1_readActs_1 12 rfl rfl)
theorem dX1_readActs_37 : decode cX1_readActs 37 = .ok (.invokevirtual 237, 3) := dk_182 0 237 (dk_at dksX1_readActs_1 13 rfl rfl)
theorem dX1_readActs_40 : decode cX1_readActs 40 = .ok (.istore 4, 2) := dk_54 4 (dk_at dksX1_readActs_1 16 rfl rfl)
theorem dX1_readActs_42 : decode cX1_readActs 42 = .ok (.ldc_w 352, 3) := dk_19 1 96 (dk_at dksX1_readActs_1 18 rfl rfl)
theorem dX1_readActs_45 : decode cX1_readActs 45 = .ok (.iload 4, 2) := dk_21 4 (dk_at dksX1_readActs_1 21 rfl rfl)
theorem dX1_readActs_47 : decode cX1_readActs 47 = .ok (.i2c, 1) := dk_146 (dk_at dksX1_readActs_1 23 rfl rfl)
theorem dX1_readActs_48 : decode cX1_readActs 48 = .ok (.invokevirtual 354, 3) := dk_182 1 98 (dk_at dksX1_readActs_2 0 rfl rfl)
theorem dX1_readActs_51 : decode cX1_readActs 51 = .ok (.ifCond .ge 12, 3) := dk_156 0 12 (dk_at dksX1_readActs_2 3 rfl rfl)
theorem dX1_readActs_54 : decode cX1_readActs 54 = .ok (.new 244, 3) := dk_187 0 244 (dk_at dksX1_readActs_2 6 rfl rfl)
theorem dX1_readActs_57 : decode cX1_readActs 57 = .ok (.dup, 1) := dk_89 (dk_at dksX1_readActs_2 9 rfl rfl)
theorem dX1_readActs_58 : decode cX1_readActs 58 = .ok (.iload_n 3, 1) := dk_29 (dk_at dksX1_readActs_2 10 rfl rfl)
theorem dX1_readActs_59 : decode cX1_readActs 59 = .ok (.invokespecial 246, 3) := dk_183 0 246 (dk_at dksX1_readActs_2 11 rfl rfl)
theorem dX1_readActs_62 : decode cX1_readActs 62 = .ok (.athrow, 1) := dk_191 (dk_at dksX1_readActs_2 14 rfl rfl)
theorem dX1_readActs_63 : decode cX1_readActs 63 = .ok (.iinc 3 1, 3) := dk_132 3 1 (dk_at dksX1_readActs_2 15 rfl rfl)
theorem dX1_readActs_66 : decode cX1_readActs 66 = .ok (.iconst 0, 1) := dk_3 (dk_at dksX1_readActs_2 18 rfl rfl)
theorem dX1_readActs_67 : decode cX1_readActs 67 = .ok (.istore 5, 2) := dk_54 5 (dk_at dksX1_readActs_2 19 rfl rfl)
theorem dX1_readActs_69 : decode cX1_readActs 69 = .ok (.iconst 0, 1) := dk_3 (dk_at dksX1_readActs_2 21 rfl rfl)
theorem dX1_readActs_70 : decode cX1_readActs 70 = .ok (.istore 6, 2) := dk_54 6 (dk_at dksX1_readActs_2 22 rfl rfl)
theorem dX1_readActs_72 : decode cX1_readActs 72 = .ok (.iload 4, 2) := dk_21 4 (dk_at dksX1_readActs_3 0 rfl rfl)
theorem dX1_readActs_74 : decode cX1_readActs 74 = .ok (.bipush 102, 2) := dk_16 102 (dk_at dksX1_readActs_3 2 rfl rfl)
theorem dX1_readActs_76 : decode cX1_readActs 76 = .ok (.if_icmp .eq 10, 3) := dk_159 0 10 (dk_at dksX1_readActs_3 4 rfl rfl)
theorem dX1_readActs_79 : decode cX1_readActs 79 = .ok (.iload 4, 2) := dk_21 4 (dk_at dksX1_readActs_3 7 rfl rfl)
theorem dX1_readActs_81 : decode cX1_readActs 81 = .ok (.bipush 98, 2) := dk_16 98 (dk_at dksX1_readActs_3 9 rfl rfl)
theorem dX1_readActs_83 : decode cX1_readActs 83 = .ok (.if_icmp .ne 7, 3) := dk_160 0 7 (dk_at dksX1_readActs_3 11 rfl rfl)
theorem dX1_readActs_86 : decode cX1_readActs 86 = .ok (.iconst 1, 1) := dk_4 (dk_at dksX1_readActs_3 14 rfl rfl)
theorem dX1_readActs_87 : decode cX1_readActs 87 = .ok (.goto 4, 3) := dk_167 0 4 (dk_at dksX1_readActs_3 15 rfl rfl)
theorem dX1_readActs_90 : decode cX1_readActs 90 = .ok (.iconst 0, 1) := dk_3 (dk_at dksX1_readActs_3 18 rfl rfl)
theorem dX1_readActs_91 : decode cX1_readActs 91 = .ok (.istore 7, 2) := dk_54 7 (dk_at dksX1_readActs_3 19 rfl rfl)
theorem dX1_readActs_93 : decode cX1_readActs 93 = .ok (.iload 7, 2) := dk_21 7 (dk_at dksX1_readActs_3 21 rfl rfl)
theorem dX1_readActs_95 : decode cX1_readActs 95 = .ok (.ifCond .eq 63, 3) := dk_153 0 63 (dk_at dksX1_readActs_4 0 rfl rfl)
theorem dX1_readActs_98 : decode cX1_readActs 98 = .ok (.aload_n 0, 1) := dk_42 (dk_at dksX1_readActs_4 3 rfl rfl)
theorem dX1_readActs_99 : decode cX1_readActs 99 = .ok (.iload_n 3, 1) := dk_29 (dk_at dksX1_readActs_4 4 rfl rfl)
theorem dX1_readActs_100 : decode cX1_readActs 100 = .ok (.iload_n 1, 1) := dk_27 (dk_at dksX1_readActs_4 5 rfl rfl)
theorem dX1_readActs_101 : decode cX1_readActs 101 = .ok (.invokevirtual 237, 3) := dk_182 0 237 (dk_at dksX1_readActs_4 6 rfl rfl)
theorem dX1_readActs_104 : decode cX1_readActs 104 = .ok (.i2l, 1) := dk_133 (dk_at dksX1_readActs_4 9 rfl rfl)
theorem dX1_readActs_105 : decode cX1_readActs 105 = .ok (.ldc2_w 240, 3) := dk_20 0 240 (dk_at dksX1_readActs_4 10 rfl rfl)
theorem dX1_readActs_108 : decode cX1_readActs 108 = .ok (.ldc2_w 359, 3) := dk_20 1 103 (dk_at dksX1_readActs_4 13 rfl rfl)
theorem dX1_readActs_111 : decode cX1_readActs 111 = .ok (.invokestatic 5, 3) := dk_184 0 5 (dk_at dksX1_readActs_4 16 rfl rfl)
theorem dX1_readActs_114 : decode cX1_readActs 114 = .ok (.ifCond .eq 44, 3) := dk_153 0 44 (dk_at dksX1_readActs_4 19 rfl rfl)
theorem dX1_readActs_117 : decode cX1_readActs 117 = .ok (.iload 6, 2) := dk_21 6 (dk_at dksX1_readActs_4 22 rfl rfl)
theorem dX1_readActs_119 : decode cX1_readActs 119 = .ok (.iconst 4, 1) := dk_7 (dk_at dksX1_readActs_5 0 rfl rfl)
theorem dX1_readActs_120 : decode cX1_readActs 120 = .ok (.if_icmp .ne 12, 3) := dk_160 0 12 (dk_at dksX1_readActs_5 1 rfl rfl)
theorem dX1_readActs_123 : decode cX1_readActs 123 = .ok (.new 244, 3) := dk_187 0 244 (dk_at dksX1_readActs_5 4 rfl rfl)
theorem dX1_readActs_126 : decode cX1_readActs 126 = .ok (.dup, 1) := dk_89 (dk_at dksX1_readActs_5 7 rfl rfl)
theorem dX1_readActs_127 : decode cX1_readActs 127 = .ok (.iload_n 3, 1) := dk_29 (dk_at dksX1_readActs_5 8 rfl rfl)
theorem dX1_readActs_128 : decode cX1_readActs 128 = .ok (.invokespecial 246, 3) := dk_183 0 246 (dk_at dksX1_readActs_5 9 rfl rfl)
theorem dX1_readActs_131 : decode cX1_readActs 131 = .ok (.athrow, 1) := dk_191 (dk_at dksX1_readActs_5 12 rfl rfl)
theorem dX1_readActs_132 : decode cX1_readActs 132 = .ok (.bipush 10, 2) := dk_16 10 (dk_at dksX1_readActs_5 13 rfl rfl)
theorem dX1_readActs_134 : decode cX1_readActs 134 = .ok (.iload 5, 2) := dk_21 5 (dk_at dksX1_readActs_5 15 rfl rfl)
theorem dX1_readActs_136 : decode cX1_readActs 136 = .ok (.imul, 1) := dk_104 (dk_at dksX1_readActs_5 17 rfl rfl)
theorem dX1_readActs_137 : decode cX1_readActs 137 = .ok (.aload_n 0, 1) := dk_42 (dk_at dksX1_readActs_5 18 rfl rfl)
theorem dX1_readActs_138 : decode cX1_readActs 138 = .ok (.iload_n 3, 1) := dk_29 (dk_at dksX1_readActs_5 19 rfl rfl)
theorem dX1_readActs_139 : decode cX1_readActs 139 = .ok (.iload_n 1, 1) := dk_27 (dk_at dksX1_readActs_5 20 rfl rfl)
theorem dX1_readActs_140 : decode cX1_readActs 140 = .ok (.invokevirtual 237, 3) := dk_182 0 237 (dk_at dksX1_readActs_5 21 rfl rfl)
theorem dX1_readActs_143 : decode cX1_readActs 143 = .ok (.iadd, 1) := dk_96 (dk_at dksX1_readActs_6 0 rfl rfl)
theorem dX1_readActs_144 : decode cX1_readActs 144 = .ok (.bipush 48, 2) := dk_16 48 (dk_at dksX1_readActs_6 1 rfl rfl)
theorem dX1_readActs_146 : decode cX1_readActs 146 = .ok (.isub, 1) := dk_100 (dk_at dksX1_readActs_6 3 rfl rfl)
theorem dX1_readActs_147 : decode cX1_readActs 147 = .ok (.istore 5, 2) := dk_54 5 (dk_at dksX1_readActs_6 4 rfl rfl)
theorem dX1_readActs_149 : decode cX1_readActs 149 = .ok (.iinc 6 1, 3) := dk_132 6 1 (dk_at dksX1_readActs_6 6 rfl rfl)
theorem dX1_readActs_152 : decode cX1_readActs 152 = .ok (.iinc 3 1, 3) := dk_132 3 1 (dk_at dksX1_readActs_6 9 rfl rfl)
theorem dX1_readActs_155 : decode cX1_readActs 155 = .ok (.goto (-62), 3) := dk_167 255 194 (dk_at dksX1_readActs_6 12 rfl rfl)
theorem dX1_readActs_158 : decode cX1_readActs 158 = .ok (.iload 7, 2) := dk_21 7 (dk_at dksX1_readActs_6 15 rfl rfl)
theorem dX1_readActs_160 : decode cX1_readActs 160 = .ok (.ifCond .eq 17, 3) := dk_153 0 17 (dk_at dksX1_readActs_6 17 rfl rfl)
theorem dX1_readActs_163 : decode cX1_readActs 163 = .ok (.iload 6, 2) := dk_21 6 (dk_at dksX1_readActs_6 20 rfl rfl)
theorem dX1_readActs_165 : decode cX1_readActs 165 = .ok (.ifCond .ne 12, 3) := dk_154 0 12 (dk_at dksX1_readActs_7 0 rfl rfl)
theorem dX1_readActs_168 : decode cX1_readActs 168 = .ok (.new 244, 3) := dk_187 0 244 (dk_at dksX1_readActs_7 3 rfl rfl)
theorem dX1_readActs_171 : decode cX1_readActs 171 = .ok (.dup, 1) := dk_89 (dk_at dksX1_readActs_7 6 rfl rfl)
theorem dX1_readActs_172 : decode cX1_readActs 172 = .ok (.iload_n 3, 1) := dk_29 (dk_at dksX1_readActs_7 7 rfl rfl)
theorem dX1_readActs_173 : decode cX1_readActs 173 = .ok (.invokespecial 246, 3) := dk_183 0 246 (dk_at dksX1_readActs_7 8 rfl rfl)
theorem dX1_readActs_176 : decode cX1_readActs 176 = .ok (.athrow, 1) := dk_191 (dk_at dksX1_readActs_7 11 rfl rfl)
theorem dX1_readActs_177 : decode cX1_readActs 177 = .ok (.aload_n 2, 1) := dk_44 (dk_at dksX1_readActs_7 12 rfl rfl)
theorem dX1_readActs_178 : decode cX1_readActs 178 = .ok (.iload 4, 2) := dk_21 4 (dk_at dksX1_readActs_7 13 rfl rfl)
theorem dX1_readActs_180 : decode cX1_readActs 180 = .ok (.invokestatic 43, 3) := dk_184 0 43 (dk_at dksX1_readActs_7 15 rfl rfl)
theorem dX1_readActs_183 : decode cX1_readActs 183 = .ok (.invokevirtual 361, 3) := dk_182 1 105 (dk_at dksX1_readActs_7 18 rfl rfl)
theorem dX1_readActs_186 : decode cX1_readActs 186 = .ok (.pop, 1) := dk_87 (dk_at dksX1_readActs_7 21 rfl rfl)
theorem dX1_readActs_187 : decode cX1_readActs 187 = .ok (.aload_n 2, 1) := dk_44 (dk_at dksX1_readActs_7 22 rfl rfl)
theorem dX1_readActs_188 : decode cX1_readActs 188 = .ok (.iload 5, 2) := dk_21 5 (dk_at dksX1_readActs_8 0 rfl rfl)
theorem dX1_readActs_190 : decode cX1_readActs 190 = .ok (.invokestatic 43, 3) := dk_184 0 43 (dk_at dksX1_readActs_8 2 rfl rfl)
theorem dX1_readActs_193 : decode cX1_readActs 193 = .ok (.invokevirtual 361, 3) := dk_182 1 105 (dk_at dksX1_readActs_8 5 rfl rfl)
theorem dX1_readActs_196 : decode cX1_readActs 196 = .ok (.pop, 1) := dk_87 (dk_at dksX1_readActs_8 8 rfl rfl)
theorem dX1_readActs_197 : decode cX1_readActs 197 = .ok (.goto (-187), 3) := dk_167 255 69 (dk_at dksX1_readActs_8 9 rfl rfl)
def dkwX1_does_4 : List UInt8 := [16, 70, 160, 0, 7, 3, 167, 0, 4, 4, 182, 1, 62, 87, 4, 172]
abbrev dktX1_does_4 : List UInt8 := dkwX1_does_4 ++ []
def dkwX1_does_3 : List UInt8 := [182, 1, 56, 4, 172, 42, 43, 182, 1, 76, 87, 4, 172, 43, 182, 1, 54, 154, 0, 5, 3, 172, 43, 28]
abbrev dktX1_does_3 : List UInt8 := dkwX1_does_3 ++ dktX1_does_4
def dkwX1_does_2 : List UInt8 := [43, 182, 1, 54, 16, 64, 160, 0, 5, 3, 172, 43, 28, 16, 102, 160, 0, 7, 3, 167, 0, 4, 4, 29]
abbrev dktX1_does_2 : List UInt8 := dkwX1_does_2 ++ dktX1_does_3
def dkwX1_does_1 : List UInt8 := [171, 0, 0, 0, 0, 0, 72, 0, 0, 0, 3, 0, 0, 0, 98, 0, 0, 0, 35, 0, 0, 0, 102, 0, 0, 0, 35, 0, 0, 0, 114, 0, 0, 0, 64]
abbrev dktX1_does_1 : List UInt8 := dkwX1_does_1 ++ dktX1_does_2
def dkwX1_does_0 : List UInt8 := [28]
abbrev dktX1_does_0 : List UInt8 := dkwX1_does_0 ++ dktX1_does_1
theorem dksX1_does_0 : cX1_does.data.toList.drop 0 = dktX1_does_0 := by decide +kernel
theorem dksX1_does_1 : cX1_does.data.toList.drop 1 = dktX1_does_1 := dk_seg dksX1_does_0 1 rfl rfl
theorem dksX1_does_2 : cX1_does.data.toList.drop 36 = dktX1_does_2 := dk_seg dksX1_does_1 35 rfl rfl
theorem dksX1_does_3 : cX1_does.data.toList.drop 60 = dktX1_does_3 := dk_seg dksX1_does_2 24 rfl rfl
theorem dksX1_does_4 : cX1_does.data.toList.drop 84 = dktX1_does_4 := dk_seg dksX1_does_3 24 rfl rfl
theorem dX1_does_0 : decode cX1_does 0 = .ok (.iload_n 2, 1) := dk_28 (dk_at dksX1_does_0 0 rfl rfl)
theorem dX1_does_1 : decode cX1_does 1 = .ok (.lookupswitch 72 #[(98, 35), (102, 35), (114, 64)], 35) := by decide +kernel
theorem dX1_does_36 : decode cX1_does 36 = .ok (.aload_n 1, 1) := dk_43 (dk_at dksX1_does_2 0 rfl rfl)
theorem dX1_does_37 : decode cX1_does 37 = .ok (.invokevirtual 310, 3) := dk_182 1 54 (dk_at dksX1_does_2 1 rfl rfl)
theorem dX1_does_40 : decode cX1_does 40 = .ok (.bipush 64, 2) := dk_16 64 (dk_at dksX1_does_2 4 rfl rfl)
theorem dX1_does_42 : decode cX1_does 42 = .ok (.if_icmp .ne 5, 3) := dk_160 0 5 (dk_at dksX1_does_2 6 rfl rfl)
theorem dX1_does_45 : decode cX1_does 45 = .ok (.iconst 0, 1) := dk_3 (dk_at dksX1_does_2 9 rfl rfl)
theorem dX1_does_46 : decode cX1_does 46 = .ok (.ireturn, 1) := dk_172 (dk_at dksX1_does_2 10 rfl rfl)
theorem dX1_does_47 : decode cX1_does 47 = .ok (.aload_n 1, 1) := dk_43 (dk_at dksX1_does_2 11 rfl rfl)
theorem dX1_does_48 : decode cX1_does 48 = .ok (.iload_n 2, 1) := dk_28 (dk_at dksX1_does_2 12 rfl rfl)
theorem dX1_does_49 : decode cX1_does 49 = .ok (.bipush 102, 2) := dk_16 102 (dk_at dksX1_does_2 13 rfl rfl)
theorem dX1_does_51 : decode cX1_does 51 = .ok (.if_icmp .ne 7, 3) := dk_160 0 7 (dk_at dksX1_does_2 15 rfl rfl)
theorem dX1_does_54 : decode cX1_does 54 = .ok (.iconst 0, 1) := dk_3 (dk_at dksX1_does_2 18 rfl rfl)
theorem dX1_does_55 : decode cX1_does 55 = .ok (.goto 4, 3) := dk_167 0 4 (dk_at dksX1_does_2 19 rfl rfl)
theorem dX1_does_58 : decode cX1_does 58 = .ok (.iconst 1, 1) := dk_4 (dk_at dksX1_does_2 22 rfl rfl)
theorem dX1_does_59 : decode cX1_does 59 = .ok (.iload_n 3, 1) := dk_29 (dk_at dksX1_does_2 23 rfl rfl)
theorem dX1_does_60 : decode cX1_does 60 = .ok (.invokevirtual 312, 3) := dk_182 1 56 (dk_at dksX1_does_3 0 rfl rfl)
theorem dX1_does_63 : decode cX1_does 63 = .ok (.iconst 1, 1) := dk_4 (dk_at dksX1_does_3 3 rfl rfl)
theorem dX1_does_64 : decode cX1_does 64 = .ok (.ireturn, 1) := dk_172 (dk_at dksX1_does_3 4 rfl rfl)
theorem dX1_does_65 : decode cX1_does 65 = .ok (.aload_n 0, 1) := dk_42 (dk_at dksX1_does_3 5 rfl rfl)
theorem dX1_does_66 : decode cX1_does 66 = .ok (.aload_n 1, 1) := dk_43 (dk_at dksX1_does_3 6 rfl rfl)
theorem dX1_does_67 : decode cX1_does 67 = .ok (.invokevirtual 332, 3) := dk_182 1 76 (dk_at dksX1_does_3 7 rfl rfl)
theorem dX1_does_70 : decode cX1_does 70 = .ok (.pop, 1) := dk_87 (dk_at dksX1_does_3 10 rfl rfl)
theorem dX1_does_71 : decode cX1_does 71 = .ok (.iconst 1, 1) := dk_4 (dk_at dksX1_does_3 11 rfl rfl)
theorem dX1_does_72 : decode cX1_does 72 = .ok (.ireturn, 1) := dk_172 (dk_at dksX1_does_3 12 rfl rfl)
theorem dX1_does_73 : decode cX1_does 73 = .ok (.aload_n 1, 1) := dk_43 (dk_at dksX1_does_3 13 rfl rfl)
theorem dX1_does_74 : decode cX1_does 74 = .ok (.invokevirtual 310, 3) := dk_182 1 54 (dk_at dksX1_does_3 14 rfl rfl)
theorem dX1_does_77 : decode cX1_does 77 = .ok (.ifCond .ne 5, 3) := dk_154 0 5 (dk_at dksX1_does_3 17 rfl rfl)
theorem dX1_does_80 : decode cX1_does 80 = .ok (.iconst 0, 1) := dk_3 (dk_at dksX1_does_3 20 rfl rfl)
theorem dX1_does_81 : decode cX1_does 81 = .ok (.ireturn, 1) := dk_172 (dk_at dksX1_does_3 21 rfl rfl)
theorem dX1_does_82 : decode cX1_does 82 = .ok (.aload_n 1, 1) := dk_43 (dk_at dksX1_does_3 22 rfl rfl)
theorem dX1_does_83 : decode cX1_does 83 = .ok (.iload_n 2, 1) := dk_28 (dk_at dksX1_does_3 23 rfl rfl)
theorem dX1_does_84 : decode cX1_does 84 = .ok (.bipush 70, 2) := dk_16 70 (dk_at dksX1_does_4 0 rfl rfl)
theorem dX1_does_86 : decode cX1_does 86 = .ok (.if_icmp .ne 7, 3) := dk_160 0 7 (dk_at dksX1_does_4 2 rfl rfl)
theorem dX1_does_89 : decode cX1_does 89 = .ok (.iconst 0, 1) := dk_3 (dk_at dksX1_does_4 5 rfl rfl)
theorem dX1_does_90 : decode cX1_does 90 = .ok (.goto 4, 3) := dk_167 0 4 (dk_at dksX1_does_4 6 rfl rfl)
theorem dX1_does_93 : decode cX1_does 93 = .ok (.iconst 1, 1) := dk_4 (dk_at dksX1_does_4 9 rfl rfl)
theorem dX1_does_94 : decode cX1_does 94 = .ok (.invokevirtual 318, 3) := dk_182 1 62 (dk_at dksX1_does_4 10 rfl rfl)
theorem dX1_does_97 : decode cX1_does 97 = .ok (.pop, 1) := dk_87 (dk_at dksX1_does_4 13 rfl rfl)
theorem dX1_does_98 : decode cX1_does 98 = .ok (.iconst 1, 1) := dk_4 (dk_at dksX1_does_4 14 rfl rfl)
theorem dX1_does_99 : decode cX1_does 99 = .ok (.ireturn, 1) := dk_172 (dk_at dksX1_does_4 15 rfl rfl)
def dkwX1_sum_2 : List UInt8 := [185, 1, 51, 2, 0, 192, 0, 157, 182, 1, 54, 172]
abbrev dktX1_sum_2 : List UInt8 := dkwX1_sum_2 ++ []
def dkwX1_sum_1 : List UInt8 := [180, 0, 154, 182, 1, 89, 42, 3, 181, 0, 199, 42, 42, 180, 0, 154, 182, 1, 29, 42, 180, 0, 162, 27]
abbrev dktX1_sum_1 : List UInt8 := dkwX1_sum_1 ++ dktX1_sum_2
def dkwX1_sum_0 : List UInt8 := [27, 184, 1, 45, 154, 0, 5, 2, 172, 42, 180, 0, 162, 27, 185, 1, 51, 2, 0, 192, 0, 157, 42]
abbrev dktX1_sum_0 : List UInt8 := dkwX1_sum_0 ++ dktX1_sum_1
theorem dksX1_sum_0 : cX1_sum.data.toList.drop 0 = dktX1_sum_0 := by decide +kernel
theorem dksX1_sum_1 : cX1_sum.data.toList.drop 23 = dktX1_sum_1 := dk_seg dksX1_sum_0 23 rfl rfl
theorem dksX1_sum_2 : cX1_sum.data.toList.drop 47 = dktX1_sum_2 := dk_seg dksX1_sum_1 24 rfl rfl
theorem dX1_sum_0 : decode cX1_sum 0 = .ok (.iload_n 1, 1) := dk_27 (dk_at dksX1_sum_0 0 rfl rfl)
theorem dX1_sum_1 : decode cX1_sum 1 = .ok (.invokestatic 301, 3) := dk_184 1 45 (dk_at dksX1_sum_0 1 rfl rfl)
theorem dX1_sum_4 : decode cX1_sum 4 = .ok (.ifCond .ne 5, 3) := dk_154 0 5 (dk_at dksX1_sum_0 4 rfl rfl)
theorem dX1_sum_7 : decode cX1_sum 7 = .ok (.iconst (-1), 1) := dk_2 (dk_at dksX1_sum_0 7 rfl rfl)
theorem dX1_sum_8 : decode cX1_sum 8 = .ok (.ireturn, 1) := dk_172 (dk_at dksX1_sum_0 8 rfl rfl)
theorem dX1_sum_9 : decode cX1_sum 9 = .ok (.aload_n 0, 1) := dk_42 (dk_at dksX1_sum_0 9 rfl rfl)
theorem dX1_sum_10 : decode cX1_sum 10 = .ok (.getfield 162, 3) := dk_180 0 162 (dk_at dksX1_sum_0 10 rfl rfl)
theorem dX1_sum_13 : decode cX1_sum 13 = .ok (.iload_n 1, 1) := dk_27 (dk_at dksX1_sum_0 13 rfl rfl)
theorem dX1_sum_14 : decode cX1_sum 14 = .ok (.invokeinterface 307 2, 5) := by decide +kernel
theorem dX1_sum_19 : decode cX1_sum 19 = .ok (.checkcast 157, 3) := dk_192 0 157 (dk_at dksX1_sum_0 19 rfl rfl)
theorem dX1_sum_22 : decode cX1_sum 22 = .ok (.aload_n 0, 1) := dk_42 (dk_at dksX1_sum_0 22 rfl rfl)
theorem dX1_sum_23 : decode cX1_sum 23 = .ok (.getfield 154, 3) := dk_180 0 154 (dk_at dksX1_sum_1 0 rfl rfl)
theorem dX1_sum_26 : decode cX1_sum 26 = .ok (.invokevirtual 345, 3) := dk_182 1 89 (dk_at dksX1_sum_1 3 rfl rfl)
theorem dX1_sum_29 : decode cX1_sum 29 = .ok (.aload_n 0, 1) := dk_42 (dk_at dksX1_sum_1 6 rfl rfl)
theorem dX1_sum_30 : decode cX1_sum 30 = .ok (.iconst 0, 1) := dk_3 (dk_at dksX1_sum_1 7 rfl rfl)
theorem dX1_sum_31 : decode cX1_sum 31 = .ok (.putfield 199, 3) := dk_181 0 199 (dk_at dksX1_sum_1 8 rfl rfl)
theorem dX1_sum_34 : decode cX1_sum 34 = .ok (.aload_n 0, 1) := dk_42 (dk_at dksX1_sum_1 11 rfl rfl)
theorem dX1_sum_35 : decode cX1_sum 35 = .ok (.aload_n 0, 1) := dk_42 (dk_at dksX1_sum_1 12 rfl rfl)
theorem dX1_sum_36 : decode cX1_sum 36 = .ok (.getfield 154, 3) := dk_180 0 154 (dk_at dksX1_sum_1 13 rfl rfl)
theorem dX1_sum_39 : decode cX1_sum 39 = .ok (.invokevirtual 285, 3) := dk_182 1 29 (dk_at dksX1_sum_1 16 rfl rfl)
theorem dX1_sum_42 : decode cX1_sum 42 = .ok (.aload_n 0, 1) := dk_42 (dk_at dksX1_sum_1 19 rfl rfl)
theorem dX1_sum_43 : decode cX1_sum 43 = .ok (.getfield 162, 3) := dk_180 0 162 (dk_at dksX1_sum_1 20 rfl rfl)
theorem dX1_sum_46 : decode cX1_sum 46 = .ok (.iload_n 1, 1) := dk_27 (dk_at dksX1_sum_1 23 rfl rfl)
theorem dX1_sum_47 : decode cX1_sum 47 = .ok (.invokeinterface 307 2, 5) := by decide +kernel
theorem dX1_sum_52 : decode cX1_sum 52 = .ok (.checkcast 157, 3) := dk_192 0 157 (dk_at dksX1_sum_2 5 rfl rfl)
theorem dX1_sum_55 : decode cX1_sum 55 = .ok (.invokevirtual 310, 3) := dk_182 1 54 (dk_at dksX1_sum_2 8 rfl rfl)
theorem dX1_sum_58 : decode cX1_sum 58 = .ok (.ireturn, 1) := dk_172 (dk_at dksX1_sum_2 11 rfl rfl)
def dkwX1_part_4 : List UInt8 := [172]
abbrev dktX1_part_4 : List UInt8 := dkwX1_part_4 ++ []
def dkwX1_part_3 : List UInt8 := [180, 0, 170, 28, 29, 182, 1, 139, 42, 3, 181, 0, 199, 42, 42, 180, 0, 154, 182, 1, 29, 29, 28, 100]
abbrev dktX1_part_3 : List UInt8 := dkwX1_part_3 ++ dktX1_part_4
def dkwX1_part_2 : List UInt8 := [185, 1, 51, 2, 0, 192, 0, 157, 42, 180, 0, 170, 182, 1, 69, 87, 42, 42, 180, 0, 154, 42]
abbrev dktX1_part_2 : List UInt8 := dkwX1_part_2 ++ dktX1_part_3
def dkwX1_part_1 : List UInt8 := [185, 1, 51, 2, 0, 192, 0, 157, 182, 1, 54, 164, 0, 6, 16, 254, 172, 42, 180, 0, 162, 27]
abbrev dktX1_part_1 : List UInt8 := dkwX1_part_1 ++ dktX1_part_2
def dkwX1_part_0 : List UInt8 := [27, 184, 1, 45, 154, 0, 5, 2, 172, 28, 155, 0, 28, 29, 28, 161, 0, 23, 29, 42, 180, 0, 162, 27]
abbrev dktX1_part_0 : List UInt8 := dkwX1_part_0 ++ dktX1_part_1
theorem dksX1_part_0 : cX1_part.data.toList.drop 0 = dktX1_part_0 := by decide +kernel
theorem dksX1_part_1 : cX1_part.data.toList.drop 24 = dktX1_part_1 := dk_seg dksX1_part_0 24 rfl rfl
theorem dksX1_part_2 : cX1_part.data.toList.drop 46 = dktX1_part_2 := dk_seg dksX1_part_1 22 rfl rfl
theorem dksX1_part_3 : cX1_part.data.toList.drop 68 = dktX1_part_3 := dk_seg dksX1_part_2 22 rfl rfl
theorem dksX1_part_4 : cX1_part.data.toList.drop 92 = dktX1_part_4 := dk_seg dksX1_part_3 24 rfl rfl
theorem dX1_part_0 : decode cX1_part 0 = .ok (.iload_n 1, 1) := dk_27 (dk_at dksX1_part_0 0 rfl rfl)
theorem dX1_part_1 : decode cX1_part 1 = .ok (.invokestatic 301, 3) := dk_184 1 45 (dk_at dksX1_part_0 1 rfl rfl)
theorem dX1_part_4 : decode cX1_part 4 = .ok (.ifCond .ne 5, 3) := dk_154 0 5 (dk_at dksX1_part_0 4 rfl rfl)
theorem dX1_part_7 : decode cX1_part 7 = .ok (.iconst (-1), 1) := dk_2 (dk_at dksX1_part_0 7 rfl rfl)
theorem dX1_part_8 : decode cX1_part 8 = .ok (.ireturn, 1) := dk_172 (dk_at dksX1_part_0 8 rfl rfl)
theorem dX1_part_9 : decode cX1_part 9 = .ok (.iload_n 2, 1) := dk_28 (dk_at dksX1_part_0 9 rfl rfl)
theorem dX1_part_10 : decode cX1_part 10 = .ok (.ifCond .lt 28, 3) := dk_155 0 28 (dk_at dksX1_part_0 10 rfl rfl)
theorem dX1_part_13 : decode cX1_part 13 = .ok (.iload_n 3, 1) := dk_29 (dk_at dksX1_part_0 13 rfl rfl)
theorem dX1_part_14 : decode cX1_part 14 = .ok (.iload_n 2, 1) := dk_28 (dk_at dksX1_part_0 14 rfl rfl)
theorem dX1_part_15 : decode cX1_part 15 = .ok (.if_icmp .lt 23, 3) := dk_161 0 23 (dk_at dksX1_part_0 15 rfl rfl)
theorem dX1_part_18 : decode cX1_part 18 = .ok (.iload_n 3, 1) := dk_29 (dk_at dksX1_part_0 18 rfl rfl)
theorem dX1_part_19 : decode cX1_part 19 = .ok (.aload_n 0, 1) := dk_42 (dk_at dksX1_part_0 19 rfl rfl)
theorem dX1_part_20 : decode cX1_part 20 = .ok (.getfield 162, 3) := dk_180 0 162 (dk_at dksX1_part_0 20 rfl rfl)
theorem dX1_part_23 : decode cX1_part 23 = .ok (.iload_n 1, 1) := dk_27 (dk_at dksX1_part_0 23 rfl rfl)
theorem dX1_part_24 : decode cX1_part 24 = .ok (.invokeinterface 307 2, 5) := by decide +kernel
theorem dX1_part_29 : decode cX1_part 29 = .ok (.checkcast 157, 3) := dk_192 0 157 (dk_at dksX1_part_1 5 rfl rfl)
theorem dX1_part_32 : decode cX1_part 32 = .ok (.invokevirtual 310, 3) := dk_182 1 54 (dk_at dksX1_part_1 8 rfl rfl)
theorem dX1_part_35 : decode cX1_part 35 = .ok (.if_icmp .le 6, 3) := dk_164 0 6 (dk_at dksX1_part_1 11 rfl rfl)
theorem dX1_part_38 : decode cX1_part 38 = .ok (.bipush (-2), 2) := dk_16 254 (dk_at dksX1_part_1 14 rfl rfl)
theorem dX1_part_40 : decode cX1_part 40 = .ok (.ireturn, 1) := dk_172 (dk_at dksX1_part_1 16 rfl rfl)
theorem dX1_part_41 : decode cX1_part 41 = .ok (.aload_n 0, 1) := dk_42 (dk_at dksX1_part_1 17 rfl rfl)
theorem dX1_part_42 : decode cX1_part 42 = .ok (.getfield 162, 3) := dk_180 0 162 (dk_at dksX1_part_1 18 rfl rfl)
theorem dX1_part_45 : decode cX1_part 45 = .ok (.iload_n 1, 1) := dk_27 (dk_at dksX1_part_1 21 rfl rfl)
theorem dX1_part_46 : decode cX1_part 46 = .ok (.invokeinterface 307 2, 5) := by decide +kernel
theorem dX1_part_51 : decode cX1_part 51 = .ok (.checkcast 157, 3) := dk_192 0 157 (dk_at dksX1_part_2 5 rfl rfl)
theorem dX1_part_54 : decode cX1_part 54 = .ok (.aload_n 0, 1) := dk_42 (dk_at dksX1_part_2 8 rfl rfl)
theorem dX1_part_55 : decode cX1_part 55 = .ok (.getfield 170, 3) := dk_180 0 170 (dk_at dksX1_part_2 9 rfl rfl)
theorem dX1_part_58 : decode cX1_part 58 = .ok (.invokevirtual 325, 3) := dk_182 1 69 (dk_at dksX1_part_2 12 rfl rfl)
theorem dX1_part_61 : decode cX1_part 61 = .ok (.pop, 1) := dk_87 (dk_at dksX1_part_2 15 rfl rfl)
theorem dX1_part_62 : decode cX1_part 62 = .ok (.aload_n 0, 1) := dk_42 (dk_at dksX1_part_2 16 rfl rfl)
theorem dX1_part_63 : decode cX1_part 63 = .ok (.aload_n 0, 1) := dk_42 (dk_at dksX1_part_2 17 rfl rfl)
theorem dX1_part_64 : decode cX1_part 64 = .ok (.getfield 154, 3) := dk_180 0 154 (dk_at dksX1_part_2 18 rfl rfl)
theorem dX1_part_67 : decode cX1_part 67 = .ok (.aload_n 0, 1) := dk_42 (dk_at dksX1_part_2 21 rfl rfl)
theorem dX1_part_68 : decode cX1_part 68 = .ok (.getfield 170, 3) := dk_180 0 170 (dk_at dksX1_part_3 0 rfl rfl)
theorem dX1_part_71 : decode cX1_part 71 = .ok (.iload_n 2, 1) := dk_28 (dk_at dksX1_part_3 3 rfl rfl)
theorem dX1_part_72 : decode cX1_part 72 = .ok (.iload_n 3, 1) := dk_29 (dk_at dksX1_part_3 4 rfl rfl)
theorem dX1_part_73 : decode cX1_part 73 = .ok (.invokevirtual 395, 3) := dk_182 1 139 (dk_at dksX1_part_3 5 rfl rfl)
theorem dX1_part_76 : decode cX1_part 76 = .ok (.aload_n 0, 1) := dk_42 (dk_at dksX1_part_3 8 rfl rfl)
theorem dX1_part_77 : decode cX1_part 77 = .ok (.iconst 0, 1) := dk_3 (dk_at dksX1_part_3 9 rfl rfl)
theorem dX1_part_78 : decode cX1_part 78 = .ok (.putfield 199, 3) := dk_181 0 199 (dk_at dksX1_part_3 10 rfl rfl)
theorem dX1_part_81 : decode cX1_part 81 = .ok (.aload_n 0, 1) := dk_42 (dk_at dksX1_part_3 13 rfl rfl)
theorem dX1_part_82 : decode cX1_part 82 = .ok (.aload_n 0, 1) := dk_42 (dk_at dksX1_part_3 14 rfl rfl)
theorem dX1_part_83 : decode cX1_part 83 = .ok (.getfield 154, 3) := dk_180 0 154 (dk_at dksX1_part_3 15 rfl rfl)
theorem dX1_part_86 : decode cX1_part 86 = .ok (.invokevirtual 285, 3) := dk_182 1 29 (dk_at dksX1_part_3 18 rfl rfl)
theorem dX1_part_89 : decode cX1_part 89 = .ok (.iload_n 3, 1) := dk_29 (dk_at dksX1_part_3 21 rfl rfl)
theorem dX1_part_90 : decode cX1_part 90 = .ok (.iload_n 2, 1) := dk_28 (dk_at dksX1_part_3 22 rfl rfl)
theorem dX1_part_91 : decode cX1_part 91 = .ok (.isub, 1) := dk_100 (dk_at dksX1_part_3 23 rfl rfl)
theorem dX1_part_92 : decode cX1_part 92 = .ok (.ireturn, 1) := dk_172 (dk_at dksX1_part_4 0 rfl rfl)
def dkwX1_folds_1 : List UInt8 := [182, 1, 23, 42, 43, 43, 42, 180, 0, 147, 182, 1, 26, 132, 5, 1, 167, 255, 224, 177]
abbrev dktX1_folds_1 : List UInt8 := dkwX1_folds_1 ++ []
def dkwX1_folds_0 : List UInt8 := [42, 43, 182, 1, 35, 29, 54, 5, 21, 5, 21, 4, 162, 0, 31, 42, 42, 180, 0, 147, 44, 21, 5, 46]
abbrev dktX1_folds_0 : List UInt8 := dkwX1_folds_0 ++ dktX1_folds_1
theorem dksX1_folds_0 : cX1_folds.data.toList.drop 0 = dktX1_folds_0 := by decide +kernel
theorem dksX1_folds_1 : cX1_folds.data.toList.drop 24 = dktX1_folds_1 := dk_seg dksX1_folds_0 24 rfl rfl
theorem dX1_folds_0 : decode cX1_folds 0 = .ok (.aload_n 0, 1) := dk_42 (dk_at dksX1_folds_0 0 rfl rfl)
theorem dX1_folds_1 : decode cX1_folds 1 = .ok (.aload_n 1, 1) := dk_43 (dk_at dksX1_folds_0 1 rfl rfl)
theorem dX1_folds_2 : decode cX1_folds 2 = .ok (.invokevirtual 291, 3) := dk_182 1 35 (dk_at dksX1_folds_0 2 rfl rfl)
theorem dX1_folds_5 : decode cX1_folds 5 = .ok (.iload_n 3, 1) := dk_29 (dk_at dksX1_folds_0 5 rfl rfl)
theorem dX1_folds_6 : decode cX1_folds 6 = .ok (.istore 5, 2) := dk_54 5 (dk_at dksX1_folds_0 6 rfl rfl)
theorem dX1_folds_8 : decode cX1_folds 8 = .ok (.iload 5, 2) := dk_21 5 (dk_at dksX1_folds_0 8 rfl rfl)
theorem dX1_folds_10 : decode cX1_folds 10 = .ok (.iload 4, 2) := dk_21 4 (dk_at dksX1_folds_0 10 rfl rfl)
theorem dX1_folds_12 : decode cX1_folds 12 = .ok (.if_icmp .ge 31, 3) := dk_162 0 31 (dk_at dksX1_folds_0 12 rfl rfl)
theorem dX1_folds_15 : decode cX1_folds 15 = .ok (.aload_n 0, 1) := dk_42 (dk_at dksX1_folds_0 15 rfl rfl)
theorem dX1_folds_16 : decode cX1_folds 16 = .ok (.aload_n 0, 1) := dk_42 (dk_at dksX1_folds_0 16 rfl rfl)
theorem dX1_folds_17 : decode cX1_folds 17 = .ok (.getfield 147, 3) := dk_180 0 147 (dk_at dksX1_folds_0 17 rfl rfl)
theorem dX1_folds_20 : decode cX1_folds 20 = .ok (.aload_n 2, 1) := dk_44 (dk_at dksX1_folds_0 20 rfl rfl)
theorem dX1_folds_21 : decode cX1_folds 21 = .ok (.iload 5, 2) := dk_21 5 (dk_at dksX1_folds_0 21 rfl rfl)
theorem dX1_folds_23 : decode cX1_folds 23 = .ok (.iaload, 1) := dk_46 (dk_at dksX1_folds_0 23 rfl rfl)
theorem dX1_folds_24 : decode cX1_folds 24 = .ok (.invokevirtual 279, 3) := dk_182 1 23 (dk_at dksX1_folds_1 0 rfl rfl)
theorem dX1_folds_27 : decode cX1_folds 27 = .ok (.aload_n 0, 1) := dk_42 (dk_at dksX1_folds_1 3 rfl rfl)
theorem dX1_folds_28 : decode cX1_folds 28 = .ok (.aload_n 1, 1) := dk_43 (dk_at dksX1_folds_1 4 rfl rfl)
theorem dX1_folds_29 : decode cX1_folds 29 = .ok (.aload_n 1, 1) := dk_43 (dk_at dksX1_folds_1 5 rfl rfl)
theorem dX1_folds_30 : decode cX1_folds 30 = .ok (.aload_n 0, 1) := dk_42 (dk_at dksX1_folds_1 6 rfl rfl)
theorem dX1_folds_31 : decode cX1_folds 31 = .ok (.getfield 147, 3) := dk_180 0 147 (dk_at dksX1_folds_1 7 rfl rfl)
theorem dX1_folds_34 : decode cX1_folds 34 = .ok (.invokevirtual 282, 3) := dk_182 1 26 (dk_at dksX1_folds_1 10 rfl rfl)
theorem dX1_folds_37 : decode cX1_folds 37 = .ok (.iinc 5 1, 3) := dk_132 5 1 (dk_at dksX1_folds_1 13 rfl rfl)
theorem dX1_folds_40 : decode cX1_folds 40 = .ok (.goto (-32), 3) := dk_167 255 224 (dk_at dksX1_folds_1 16 rfl rfl)
theorem dX1_folds_43 : decode cX1_folds 43 = .ok (.return_, 1) := dk_177 (dk_at dksX1_folds_1 19 rfl rfl)
def dkwX1_windows_7 : List UInt8 := [29, 28, 100, 4, 96, 172]
abbrev dktX1_windows_7 : List UInt8 := dkwX1_windows_7 ++ []
def dkwX1_windows_6 : List UInt8 := [180, 0, 154, 182, 1, 29, 132, 7, 1, 167, 255, 179, 42, 22, 4, 181, 1, 59, 42, 21, 6, 181, 1, 146]
abbrev dktX1_windows_6 : List UInt8 := dkwX1_windows_6 ++ dktX1_windows_7
def dkwX1_windows_5 : List UInt8 := [182, 1, 54, 28, 162, 0, 6, 167, 0, 22, 42, 180, 0, 166, 42, 180, 0, 154, 182, 1, 89, 42, 42]
abbrev dktX1_windows_5 : List UInt8 := dkwX1_windows_5 ++ dktX1_windows_6
def dkwX1_windows_4 : List UInt8 := [42, 180, 0, 166, 182, 1, 54, 28, 164, 0, 12, 42, 180, 0, 166, 3, 182, 1, 62, 87, 42, 180, 0, 166]
abbrev dktX1_windows_4 : List UInt8 := dkwX1_windows_4 ++ dktX1_windows_5
def dkwX1_windows_3 : List UInt8 := [3, 54, 7, 21, 7, 29, 162, 0, 77, 42, 180, 0, 166, 4, 42, 180, 0, 173, 21, 7, 46, 182, 1, 56]
abbrev dktX1_windows_3 : List UInt8 := dkwX1_windows_3 ++ dktX1_windows_4
def dkwX1_windows_2 : List UInt8 := [42, 180, 1, 59, 55, 4, 42, 180, 1, 146, 54, 6, 42, 180, 0, 166, 182, 1, 92, 42, 3, 181, 0, 199]
abbrev dktX1_windows_2 : List UInt8 := dkwX1_windows_2 ++ dktX1_windows_3
def dkwX1_windows_1 : List UInt8 := [185, 1, 51, 2, 0, 192, 0, 157, 42, 180, 0, 173, 182, 1, 69, 62, 29, 28, 162, 0, 6, 16, 254, 172]
abbrev dktX1_windows_1 : List UInt8 := dkwX1_windows_1 ++ dktX1_windows_2
def dkwX1_windows_0 : List UInt8 := [27, 184, 1, 45, 153, 0, 11, 42, 28, 182, 1, 143, 154, 0, 5, 2, 172, 42, 180, 0, 162, 27]
abbrev dktX1_windows_0 : List UInt8 := dkwX1_windows_0 ++ dktX1_windows_1
theorem dksX1_windows_0 : cX1_windows.data.toList.drop 0 = dktX1_windows_0 := by decide +kernel
theorem dksX1_windows_1 : cX1_windows.data.toList.drop 22 = dktX1_windows_1 := dk_seg dksX1_windows_0 22 rfl rfl
theorem dksX1_windows_2 : cX1_windows.data.toList.drop 46 = dktX1_windows_2 := dk_seg dksX1_windows_1 24 rfl rfl
theorem dksX1_windows_3 : cX1_windows.data.toList.drop 70 = dktX1_windows_3 := dk_seg dksX1_windows_2 24 rfl rfl
theorem dksX1_windows_4 : cX1_windows.data.toList.drop 94 = dktX1_windows_4 := dk_seg dksX1_windows_3 24 rfl rfl
theorem dksX1_windows_5 : cX1_windows.data.toList.drop 118 = dktX1_windows_5 := dk_seg dksX1_windows_4 24 rfl rfl
theorem dksX1_windows_6 : cX1_windows.data.toList.drop 141 = dktX1_windows_6 := dk_seg dksX1_windows_5 23 rfl rfl
theorem dksX1_windows_7 : cX1_windows.data.toList.drop 165 = dktX1_windows_7 := dk_seg dksX1_windows_6 24 rfl rfl
theorem dX1_windows_0 : decode cX1_windows 0 = .ok (.iload_n 1, 1) := dk_27 (dk_at dksX1_windows_0 0 rfl rfl)
theorem dX1_windows_1 : decode cX1_windows 1 = .ok (.invokestatic 301, 3) := dk_184 1 45 (dk_at dksX1_windows_0 1 rfl rfl)
theorem dX1_windows_4 : decode cX1_windows 4 = .ok (.ifCond .eq 11, 3) := dk_153 0 11 (dk_at dksX1_windows_0 4 rfl rfl)
theorem dX1_windows_7 : decode cX1_windows 7 = .ok (.aload_n 0, 1) := dk_42 (dk_at dksX1_windows_0 7 rfl rfl)
theorem dX1_windows_8 : decode cX1_windows 8 = .ok (.iload_n 2, 1) := dk_28 (dk_at dksX1_windows_0 8 rfl rfl)
theorem dX1_windows_9 : decode cX1_windows 9 = .ok (.invokevirtual 399, 3) := dk_182 1 143 (dk_at dksX1_windows_0 9 rfl rfl)
theorem dX1_windows_12 : decode cX1_windows 12 = .ok (.ifCond .ne 5, 3) := dk_154 0 5 (dk_at dksX1_windows_0 12 rfl rfl)
theorem dX1_windows_15 : decode cX1_windows 15 = .ok (.iconst (-1), 1) := dk_2 (dk_at dksX1_windows_0 15 rfl rfl)
theorem dX1_windows_16 : decode cX1_windows 16 = .ok (.ireturn, 1) := dk_172 (dk_at dksX1_windows_0 16 rfl rfl)
theorem dX1_windows_17 : decode cX1_windows 17 = .ok (.aload_n 0, 1) := dk_42 (dk_at dksX1_windows_0 17 rfl rfl)
theorem dX1_windows_18 : decode cX1_windows 18 = .ok (.getfield 162, 3) := dk_180 0 162 (dk_at dksX1_windows_0 18 rfl rfl)
theorem dX1_windows_21 : decode cX1_windows 21 = .ok (.iload_n 1, 1) := dk_27 (dk_at dksX1_windows_0 21 rfl rfl)
theorem dX1_windows_22 : decode cX1_windows 22 = .ok (.invokeinterface 307 2, 5) := by decide +kernel
theorem dX1_windows_27 : decode cX1_windows 27 = .ok (.checkcast 157, 3) := dk_192 0 157 (dk_at dksX1_windows_1 5 rfl rfl)
theorem dX1_windows_30 : decode cX1_windows 30 = .ok (.aload_n 0, 1) := dk_42 (dk_at dksX1_windows_1 8 rfl rfl)
theorem dX1_windows_31 : decode cX1_windows 31 = .ok (.getfield 173, 3) := dk_180 0 173 (dk_at dksX1_windows_1 9 rfl rfl)
theorem dX1_windows_34 : decode cX1_windows 34 = .ok (.invokevirtual 325, 3) := dk_182 1 69 (dk_at dksX1_windows_1 12 rfl rfl)
theorem dX1_windows_37 : decode cX1_windows 37 = .ok (.istore_n 3, 1) := dk_62 (dk_at dksX1_windows_1 15 rfl rfl)
theorem dX1_windows_38 : decode cX1_windows 38 = .ok (.iload_n 3, 1) := dk_29 (dk_at dksX1_windows_1 16 rfl rfl)
theorem dX1_windows_39 : decode cX1_windows 39 = .ok (.iload_n 2, 1) := dk_28 (dk_at dksX1_windows_1 17 rfl rfl)
theorem dX1_windows_40 : decode cX1_windows 40 = .ok (.if_icmp .ge 6, 3) := dk_162 0 6 (dk_at dksX1_windows_1 18 rfl rfl)
theorem dX1_windows_43 : decode cX1_windows 43 = .ok (.bipush (-2), 2) := dk_16 254 (dk_at dksX1_windows_1 21 rfl rfl)
theorem dX1_windows_45 : decode cX1_windows 45 = .ok (.ireturn, 1) := dk_172 (dk_at dksX1_windows_1 23 rfl rfl)
theorem dX1_windows_46 : decode cX1_windows 46 = .ok (.aload_n 0, 1) := dk_42 (dk_at dksX1_windows_2 0 rfl rfl)
theorem dX1_windows_47 : decode cX1_windows 47 = .ok (.getfield 315, 3) := dk_180 1 59 (dk_at dksX1_windows_2 1 rfl rfl)
theorem dX1_windows_50 : decode cX1_windows 50 = .ok (.lstore 4, 2) := dk_55 4 (dk_at dksX1_windows_2 4 rfl rfl)
theorem dX1_windows_52 : decode cX1_windows 52 = .ok (.aload_n 0, 1) := dk_42 (dk_at dksX1_windows_2 6 rfl rfl)
theorem dX1_windows_53 : decode cX1_windows 53 = .ok (.getfield 402, 3) := dk_180 1 146 (dk_at dksX1_windows_2 7 rfl rfl)
theorem dX1_windows_56 : decode cX1_windows 56 = .ok (.istore 6, 2) := dk_54 6 (dk_at dksX1_windows_2 10 rfl rfl)
theorem dX1_windows_58 : decode cX1_windows 58 = .ok (.aload_n 0, 1) := dk_42 (dk_at dksX1_windows_2 12 rfl rfl)
theorem dX1_windows_59 : decode cX1_windows 59 = .ok (.getfield 166, 3) := dk_180 0 166 (dk_at dksX1_windows_2 13 rfl rfl)
theorem dX1_windows_62 : decode cX1_windows 62 = .ok (.invokevirtual 348, 3) := dk_182 1 92 (dk_at dksX1_windows_2 16 rfl rfl)
theorem dX1_windows_65 : decode cX1_windows 65 = .ok (.aload_n 0, 1) := dk_42 (dk_at dksX1_windows_2 19 rfl rfl)
theorem dX1_windows_66 : decode cX1_windows 66 = .ok (.iconst 0, 1) := dk_3 (dk_at dksX1_windows_2 20 rfl rfl)
theorem dX1_windows_67 : decode cX1_windows 67 = .ok (.putfield 199, 3) := dk_181 0 199 (dk_at dksX1_windows_2 21 rfl rfl)
theorem dX1_windows_70 : decode cX1_windows 70 = .ok (.iconst 0, 1) := dk_3 (dk_at dksX1_windows_3 0 rfl rfl)
theorem dX1_windows_71 : decode cX1_windows 71 = .ok (.istore 7, 2) := dk_54 7 (dk_at dksX1_windows_3 1 rfl rfl)
theorem dX1_windows_73 : decode cX1_windows 73 = .ok (.iload 7, 2) := dk_21 7 (dk_at dksX1_windows_3 3 rfl rfl)
theorem dX1_windows_75 : decode cX1_windows 75 = .ok (.iload_n 3, 1) := dk_29 (dk_at dksX1_windows_3 5 rfl rfl)
theorem dX1_windows_76 : decode cX1_windows 76 = .ok (.if_icmp .ge 77, 3) := dk_162 0 77 (dk_at dksX1_windows_3 6 rfl rfl)
theorem dX1_windows_79 : decode cX1_windows 79 = .ok (.aload_n 0, 1) := dk_42 (dk_at dksX1_windows_3 9 rfl rfl)
theorem dX1_windows_80 : decode cX1_windows 80 = .ok (.getfield 166, 3) := dk_180 0 166 (dk_at dksX1_windows_3 10 rfl rfl)
theorem dX1_windows_83 : decode cX1_windows 83 = .ok (.iconst 1, 1) := dk_4 (dk_at dksX1_windows_3 13 rfl rfl)
theorem dX1_windows_84 : decode cX1_windows 84 = .ok (.aload_n 0, 1) := dk_42 (dk_at dksX1_windows_3 14 rfl rfl)
theorem dX1_windows_85 : decode cX1_windows 85 = .ok (.getfield 173, 3) := dk_180 0 173 (dk_at dksX1_windows_3 15 rfl rfl)
theorem dX1_windows_88 : decode cX1_windows 88 = .ok (.iload 7, 2) := dk_21 7 (dk_at dksX1_windows_3 18 rfl rfl)
theorem dX1_windows_90 : decode cX1_windows 90 = .ok (.iaload, 1) := dk_46 (dk_at dksX1_windows_3 20 rfl rfl)
theorem dX1_windows_91 : decode cX1_windows 91 = .ok (.invokevirtual 312, 3) := dk_182 1 56 (dk_at dksX1_windows_3 21 rfl rfl)
theorem dX1_windows_94 : decode cX1_windows 94 = .ok (.aload_n 0, 1) := dk_42 (dk_at dksX1_windows_4 0 rfl rfl)
theorem dX1_windows_95 : decode cX1_windows 95 = .ok (.getfield 166, 3) := dk_180 0 166 (dk_at dksX1_windows_4 1 rfl rfl)
theorem dX1_windows_98 : decode cX1_windows 98 = .ok (.invokevirtual 310, 3) := dk_182 1 54 (dk_at dksX1_windows_4 4 rfl rfl)
theorem dX1_windows_101 : decode cX1_windows 101 = .ok (.iload_n 2, 1) := dk_28 (dk_at dksX1_windows_4 7 rfl rfl)
theorem dX1_windows_102 : decode cX1_windows 102 = .ok (.if_icmp .le 12, 3) := dk_164 0 12 (dk_at dksX1_windows_4 8 rfl rfl)
theorem dX1_windows_105 : decode cX1_windows 105 = .ok (.aload_n 0, 1) := dk_42 (dk_at dksX1_windows_4 11 rfl rfl)
theorem dX1_windows_106 : decode cX1_windows 106 = .ok (.getfield 166, 3) := dk_180 0 166 (dk_at dksX1_windows_4 12 rfl rfl)
theorem dX1_windows_109 : decode cX1_windows 109 = .ok (.iconst 0, 1) := dk_3 (dk_at dksX1_windows_4 15 rfl rfl)
theorem dX1_windows_110 : decode cX1_windows 110 = .ok (.invokevirtual 318, 3) := dk_182 1 62 (dk_at dksX1_windows_4 16 rfl rfl)
theorem dX1_windows_113 : decode cX1_windows 113 = .ok (.pop, 1) := dk_87 (dk_at dksX1_windows_4 19 rfl rfl)
theorem dX1_windows_114 : decode cX1_windows 114 = .ok (.aload_n 0, 1) := dk_42 (dk_at dksX1_windows_4 20 rfl rfl)
theorem dX1_windows_115 : decode cX1_windows 115 = .ok (.getfield 166, 3) := dk_180 0 166 (dk_at dksX1_windows_4 21 rfl rfl)
theorem dX1_windows_118 : decode cX1_windows 118 = .ok (.invokevirtual 310, 3) := dk_182 1 54 (dk_at dksX1_windows_5 0 rfl rfl)
theorem dX1_windows_121 : decode cX1_windows 121 = .ok (.iload_n 2, 1) := dk_28 (dk_at dksX1_windows_5 3 rfl rfl)
theorem dX1_windows_122 : decode cX1_windows 122 = .ok (.if_icmp .ge 6, 3) := dk_162 0 6 (dk_at dksX1_windows_5 4 rfl rfl)
theorem dX1_windows_125 : decode cX1_windows 125 = .ok (.goto 22, 3) := dk_167 0 22 (dk_at dksX1_windows_5 7 rfl rfl)
theorem dX1_windows_128 : decode cX1_windows 128 = .ok (.aload_n 0, 1) := dk_42 (dk_at dksX1_windows_5 10 rfl rfl)
theorem dX1_windows_129 : decode cX1_windows 129 = .ok (.getfield 166, 3) := dk_180 0 166 (dk_at dksX1_windows_5 11 rfl rfl)
theorem dX1_windows_132 : decode cX1_windows 132 = .ok (.aload_n 0, 1) := dk_42 (dk_at dksX1_windows_5 14 rfl rfl)
theorem dX1_windows_133 : decode cX1_windows 133 = .ok (.getfield 154, 3) := dk_180 0 154 (dk_at dksX1_windows_5 15 rfl rfl)
theorem dX1_windows_136 : decode cX1_windows 136 = .ok (.invokevirtual 345, 3) := dk_182 1 89 (dk_at dksX1_windows_5 18 rfl rfl)
theorem dX1_windows_139 : decode cX1_windows 139 = .ok (.aload_n 0, 1) := dk_42 (dk_at dksX1_windows_5 21 rfl rfl)
theorem dX1_windows_140 : decode cX1_windows 140 = .ok (.aload_n 0, 1) := dk_42 (dk_at dksX1_windows_5 22 rfl rfl)
theorem dX1_windows_141 : decode cX1_windows 141 = .ok (.getfield 154, 3) := dk_180 0 154 (dk_at dksX1_windows_6 0 rfl rfl)
theorem dX1_windows_144 : decode cX1_windows 144 = .ok (.invokevirtual 285, 3) := dk_182 1 29 (dk_at dksX1_windows_6 3 rfl rfl)
theorem dX1_windows_147 : decode cX1_windows 147 = .ok (.iinc 7 1, 3) := dk_132 7 1 (dk_at dksX1_windows_6 6 rfl rfl)
theorem dX1_windows_150 : decode cX1_windows 150 = .ok (.goto (-77), 3) := dk_167 255 179 (dk_at dksX1_windows_6 9 rfl rfl)
theorem dX1_windows_153 : decode cX1_windows 153 = .ok (.aload_n 0, 1) := dk_42 (dk_at dksX1_windows_6 12 rfl rfl)
theorem dX1_windows_154 : decode cX1_windows 154 = .ok (.lload 4, 2) := dk_22 4 (dk_at dksX1_windows_6 13 rfl rfl)
theorem dX1_windows_156 : decode cX1_windows 156 = .ok (.putfield 315, 3) := dk_181 1 59 (dk_at dksX1_windows_6 15 rfl rfl)
theorem dX1_windows_159 : decode cX1_windows 159 = .ok (.aload_n 0, 1) := dk_42 (dk_at dksX1_windows_6 18 rfl rfl)
theorem dX1_windows_160 : decode cX1_windows 160 = .ok (.iload 6, 2) := dk_21 6 (dk_at dksX1_windows_6 19 rfl rfl)
theorem dX1_windows_162 : decode cX1_windows 162 = .ok (.putfield 402, 3) := dk_181 1 146 (dk_at dksX1_windows_6 21 rfl rfl)
theorem dX1_windows_165 : decode cX1_windows 165 = .ok (.iload_n 3, 1) := dk_29 (dk_at dksX1_windows_7 0 rfl rfl)
theorem dX1_windows_166 : decode cX1_windows 166 = .ok (.iload_n 2, 1) := dk_28 (dk_at dksX1_windows_7 1 rfl rfl)
theorem dX1_windows_167 : decode cX1_windows 167 = .ok (.isub, 1) := dk_100 (dk_at dksX1_windows_7 2 rfl rfl)
theorem dX1_windows_168 : decode cX1_windows 168 = .ok (.iconst 1, 1) := dk_4 (dk_at dksX1_windows_7 3 rfl rfl)
theorem dX1_windows_169 : decode cX1_windows 169 = .ok (.iadd, 1) := dk_96 (dk_at dksX1_windows_7 4 rfl rfl)
theorem dX1_windows_170 : decode cX1_windows 170 = .ok (.ireturn, 1) := dk_172 (dk_at dksX1_windows_7 5 rfl rfl)
def dkwX1_isWindow_0 : List UInt8 := [27, 133, 10, 20, 1, 87, 184, 0, 5, 172]
abbrev dktX1_isWindow_0 : List UInt8 := dkwX1_isWindow_0 ++ []
theorem dksX1_isWindow_0 : cX1_isWindow.data.toList.drop 0 = dktX1_isWindow_0 := by decide +kernel
theorem dX1_isWindow_0 : decode cX1_isWindow 0 = .ok (.iload_n 1, 1) := dk_27 (dk_at dksX1_isWindow_0 0 rfl rfl)
theorem dX1_isWindow_1 : decode cX1_isWindow 1 = .ok (.i2l, 1) := dk_133 (dk_at dksX1_isWindow_0 1 rfl rfl)
theorem dX1_isWindow_2 : decode cX1_isWindow 2 = .ok (.lconst 1, 1) := dk_10 (dk_at dksX1_isWindow_0 2 rfl rfl)
theorem dX1_isWindow_3 : decode cX1_isWindow 3 = .ok (.ldc2_w 343, 3) := dk_20 1 87 (dk_at dksX1_isWindow_0 3 rfl rfl)
theorem dX1_isWindow_6 : decode cX1_isWindow 6 = .ok (.invokestatic 5, 3) := dk_184 0 5 (dk_at dksX1_isWindow_0 6 rfl rfl)
theorem dX1_isWindow_9 : decode cX1_isWindow 9 = .ok (.ireturn, 1) := dk_172 (dk_at dksX1_isWindow_0 9 rfl rfl)
def dkwX1_first_5 : List UInt8 := [16, 254, 172]
abbrev dktX1_first_5 : List UInt8 := dkwX1_first_5 ++ []
def dkwX1_first_4 : List UInt8 := [3, 181, 0, 199, 42, 42, 180, 0, 154, 182, 1, 29, 21, 4, 4, 96, 172, 132, 4, 1, 167, 255, 182]
abbrev dktX1_first_4 : List UInt8 := dkwX1_first_4 ++ dktX1_first_5
def dkwX1_first_3 : List UInt8 := [42, 180, 0, 147, 182, 1, 26, 42, 180, 0, 154, 180, 0, 23, 28, 133, 148, 156, 0, 6, 167, 0, 21, 42]
abbrev dktX1_first_3 : List UInt8 := dkwX1_first_3 ++ dktX1_first_4
def dkwX1_first_2 : List UInt8 := [42, 42, 180, 0, 147, 42, 180, 0, 170, 21, 4, 46, 182, 1, 23, 42, 42, 180, 0, 154, 42, 180, 0, 154]
abbrev dktX1_first_2 : List UInt8 := dkwX1_first_2 ++ dktX1_first_3
def dkwX1_first_1 : List UInt8 := [180, 0, 170, 182, 1, 69, 62, 42, 42, 180, 0, 154, 182, 1, 35, 3, 54, 4, 21, 4, 29, 162, 0, 74]
abbrev dktX1_first_1 : List UInt8 := dkwX1_first_1 ++ dktX1_first_2
def dkwX1_first_0 : List UInt8 := [27, 184, 1, 45, 154, 0, 5, 2, 172, 42, 180, 0, 162, 27, 185, 1, 51, 2, 0, 192, 0, 157, 42]
abbrev dktX1_first_0 : List UInt8 := dkwX1_first_0 ++ dktX1_first_1
theorem dksX1_first_0 : cX1_first.data.toList.drop 0 = dktX1_first_0 := by decide +kernel
theorem dksX1_first_1 : cX1_first.data.toList.drop 23 = dktX1_first_1 := dk_seg dksX1_first_0 23 rfl rfl
theorem dksX1_first_2 : cX1_first.data.toList.drop 47 = dktX1_first_2 := dk_seg dksX1_first_1 24 rfl rfl
theorem dksX1_first_3 : cX1_first.data.toList.drop 71 = dktX1_first_3 := dk_seg dksX1_first_2 24 rfl rfl
theorem dksX1_first_4 : cX1_first.data.toList.drop 95 = dktX1_first_4 := dk_seg dksX1_first_3 24 rfl rfl
theorem dksX1_first_5 : cX1_first.data.toList.drop 118 = dktX1_first_5 := dk_seg dksX1_first_4 23 rfl rfl
theorem dX1_first_0 : decode cX1_first 0 = .ok (.iload_n 1, 1) := dk_27 (dk_at dksX1_first_0 0 rfl rfl)
theorem dX1_first_1 : decode cX1_first 1 = .ok (.invokestatic 301, 3) := dk_184 1 45 (dk_at dksX1_first_0 1 rfl rfl)
theorem dX1_first_4 : decode cX1_first 4 = .ok (.ifCond .ne 5, 3) := dk_154 0 5 (dk_at dksX1_first_0 4 rfl rfl)
theorem dX1_first_7 : decode cX1_first 7 = .ok (.iconst (-1), 1) := dk_2 (dk_at dksX1_first_0 7 rfl rfl)
theorem dX1_first_8 : decode cX1_first 8 = .ok (.ireturn, 1) := dk_172 (dk_at dksX1_first_0 8 rfl rfl)
theorem dX1_first_9 : decode cX1_first 9 = .ok (.aload_n 0, 1) := dk_42 (dk_at dksX1_first_0 9 rfl rfl)
theorem dX1_first_10 : decode cX1_first 10 = .ok (.getfield 162, 3) := dk_180 0 162 (dk_at dksX1_first_0 10 rfl rfl)
theorem dX1_first_13 : decode cX1_first 13 = .ok (.iload_n 1, 1) := dk_27 (dk_at dksX1_first_0 13 rfl rfl)
theorem dX1_first_14 : decode cX1_first 14 = .ok (.invokeinterface 307 2, 5) := by decide +kernel
theorem dX1_first_19 : decode cX1_first 19 = .ok (.checkcast 157, 3) := dk_192 0 157 (dk_at dksX1_first_0 19 rfl rfl)
theorem dX1_first_22 : decode cX1_first 22 = .ok (.aload_n 0, 1) := dk_42 (dk_at dksX1_first_0 22 rfl rfl)
theorem dX1_first_23 : decode cX1_first 23 = .ok (.getfield 170, 3) := dk_180 0 170 (dk_at dksX1_first_1 0 rfl rfl)
theorem dX1_first_26 : decode cX1_first 26 = .ok (.invokevirtual 325, 3) := dk_182 1 69 (dk_at dksX1_first_1 3 rfl rfl)
theorem dX1_first_29 : decode cX1_first 29 = .ok (.istore_n 3, 1) := dk_62 (dk_at dksX1_first_1 6 rfl rfl)
theorem dX1_first_30 : decode cX1_first 30 = .ok (.aload_n 0, 1) := dk_42 (dk_at dksX1_first_1 7 rfl rfl)
theorem dX1_first_31 : decode cX1_first 31 = .ok (.aload_n 0, 1) := dk_42 (dk_at dksX1_first_1 8 rfl rfl)
theorem dX1_first_32 : decode cX1_first 32 = .ok (.getfield 154, 3) := dk_180 0 154 (dk_at dksX1_first_1 9 rfl rfl)
theorem dX1_first_35 : decode cX1_first 35 = .ok (.invokevirtual 291, 3) := dk_182 1 35 (dk_at dksX1_first_1 12 rfl rfl)
theorem dX1_first_38 : decode cX1_first 38 = .ok (.iconst 0, 1) := dk_3 (dk_at dksX1_first_1 15 rfl rfl)
theorem dX1_first_39 : decode cX1_first 39 = .ok (.istore 4, 2) := dk_54 4 (dk_at dksX1_first_1 16 rfl rfl)
theorem dX1_first_41 : decode cX1_first 41 = .ok (.iload 4, 2) := dk_21 4 (dk_at dksX1_first_1 18 rfl rfl)
theorem dX1_first_43 : decode cX1_first 43 = .ok (.iload_n 3, 1) := dk_29 (dk_at dksX1_first_1 20 rfl rfl)
theorem dX1_first_44 : decode cX1_first 44 = .ok (.if_icmp .ge 74, 3) := dk_162 0 74 (dk_at dksX1_first_1 21 rfl rfl)
theorem dX1_first_47 : decode cX1_first 47 = .ok (.aload_n 0, 1) := dk_42 (dk_at dksX1_first_2 0 rfl rfl)
theorem dX1_first_48 : decode cX1_first 48 = .ok (.aload_n 0, 1) := dk_42 (dk_at dksX1_first_2 1 rfl rfl)
theorem dX1_first_49 : decode cX1_first 49 = .ok (.getfield 147, 3) := dk_180 0 147 (dk_at dksX1_first_2 2 rfl rfl)
theorem dX1_first_52 : decode cX1_first 52 = .ok (.aload_n 0, 1) := dk_42 (dk_at dksX1_first_2 5 rfl rfl)
theorem dX1_first_53 : decode cX1_first 53 = .ok (.getfield 170, 3) := dk_180 0 170 (dk_at dksX1_first_2 6 rfl rfl)
theorem dX1_first_56 : decode cX1_first 56 = .ok (.iload 4, 2) := dk_21 4 (dk_at dksX1_first_2 9 rfl rfl)
theorem dX1_first_58 : decode cX1_first 58 = .ok (.iaload, 1) := dk_46 (dk_at dksX1_first_2 11 rfl rfl)
theorem dX1_first_59 : decode cX1_first 59 = .ok (.invokevirtual 279, 3) := dk_182 1 23 (dk_at dksX1_first_2 12 rfl rfl)
theorem dX1_first_62 : decode cX1_first 62 = .ok (.aload_n 0, 1) := dk_42 (dk_at dksX1_first_2 15 rfl rfl)
theorem dX1_first_63 : decode cX1_first 63 = .ok (.aload_n 0, 1) := dk_42 (dk_at dksX1_first_2 16 rfl rfl)
theorem dX1_first_64 : decode cX1_first 64 = .ok (.getfield 154, 3) := dk_180 0 154 (dk_at dksX1_first_2 17 rfl rfl)
theorem dX1_first_67 : decode cX1_first 67 = .ok (.aload_n 0, 1) := dk_42 (dk_at dksX1_first_2 20 rfl rfl)
theorem dX1_first_68 : decode cX1_first 68 = .ok (.getfield 154, 3) := dk_180 0 154 (dk_at dksX1_first_2 21 rfl rfl)
theorem dX1_first_71 : decode cX1_first 71 = .ok (.aload_n 0, 1) := dk_42 (dk_at dksX1_first_3 0 rfl rfl)
theorem dX1_first_72 : decode cX1_first 72 = .ok (.getfield 147, 3) := dk_180 0 147 (dk_at dksX1_first_3 1 rfl rfl)
theorem dX1_first_75 : decode cX1_first 75 = .ok (.invokevirtual 282, 3) := dk_182 1 26 (dk_at dksX1_first_3 4 rfl rfl)
theorem dX1_first_78 : decode cX1_first 78 = .ok (.aload_n 0, 1) := dk_42 (dk_at dksX1_first_3 7 rfl rfl)
theorem dX1_first_79 : decode cX1_first 79 = .ok (.getfield 154, 3) := dk_180 0 154 (dk_at dksX1_first_3 8 rfl rfl)
theorem dX1_first_82 : decode cX1_first 82 = .ok (.getfield 23, 3) := dk_180 0 23 (dk_at dksX1_first_3 11 rfl rfl)
theorem dX1_first_85 : decode cX1_first 85 = .ok (.iload_n 2, 1) := dk_28 (dk_at dksX1_first_3 14 rfl rfl)
theorem dX1_first_86 : decode cX1_first 86 = .ok (.i2l, 1) := dk_133 (dk_at dksX1_first_3 15 rfl rfl)
theorem dX1_first_87 : decode cX1_first 87 = .ok (.lcmp, 1) := dk_148 (dk_at dksX1_first_3 16 rfl rfl)
theorem dX1_first_88 : decode cX1_first 88 = .ok (.ifCond .ge 6, 3) := dk_156 0 6 (dk_at dksX1_first_3 17 rfl rfl)
theorem dX1_first_91 : decode cX1_first 91 = .ok (.goto 21, 3) := dk_167 0 21 (dk_at dksX1_first_3 20 rfl rfl)
theorem dX1_first_94 : decode cX1_first 94 = .ok (.aload_n 0, 1) := dk_42 (dk_at dksX1_first_3 23 rfl rfl)
theorem dX1_first_95 : decode cX1_first 95 = .ok (.iconst 0, 1) := dk_3 (dk_at dksX1_first_4 0 rfl rfl)
theorem dX1_first_96 : decode cX1_first 96 = .ok (.putfield 199, 3) := dk_181 0 199 (dk_at dksX1_first_4 1 rfl rfl)
theorem dX1_first_99 : decode cX1_first 99 = .ok (.aload_n 0, 1) := dk_42 (dk_at dksX1_first_4 4 rfl rfl)
theorem dX1_first_100 : decode cX1_first 100 = .ok (.aload_n 0, 1) := dk_42 (dk_at dksX1_first_4 5 rfl rfl)
theorem dX1_first_101 : decode cX1_first 101 = .ok (.getfield 154, 3) := dk_180 0 154 (dk_at dksX1_first_4 6 rfl rfl)
theorem dX1_first_104 : decode cX1_first 104 = .ok (.invokevirtual 285, 3) := dk_182 1 29 (dk_at dksX1_first_4 9 rfl rfl)
theorem dX1_first_107 : decode cX1_first 107 = .ok (.iload 4, 2) := dk_21 4 (dk_at dksX1_first_4 12 rfl rfl)
theorem dX1_first_109 : decode cX1_first 109 = .ok (.iconst 1, 1) := dk_4 (dk_at dksX1_first_4 14 rfl rfl)
theorem dX1_first_110 : decode cX1_first 110 = .ok (.iadd, 1) := dk_96 (dk_at dksX1_first_4 15 rfl rfl)
theorem dX1_first_111 : decode cX1_first 111 = .ok (.ireturn, 1) := dk_172 (dk_at dksX1_first_4 16 rfl rfl)
theorem dX1_first_112 : decode cX1_first 112 = .ok (.iinc 4 1, 3) := dk_132 4 1 (dk_at dksX1_first_4 17 rfl rfl)
theorem dX1_first_115 : decode cX1_first 115 = .ok (.goto (-74), 3) := dk_167 255 182 (dk_at dksX1_first_4 20 rfl rfl)
theorem dX1_first_118 : decode cX1_first 118 = .ok (.bipush (-2), 2) := dk_16 254 (dk_at dksX1_first_5 0 rfl rfl)
theorem dX1_first_120 : decode cX1_first 120 = .ok (.ireturn, 1) := dk_172 (dk_at dksX1_first_5 2 rfl rfl)
def dkwX1_longest_6 : List UInt8 := [167, 255, 175, 132, 6, 1, 167, 255, 151, 42, 3, 181, 0, 199, 42, 21, 5, 133, 182, 0, 202, 21, 4, 172]
abbrev dktX1_longest_6 : List UInt8 := dkwX1_longest_6 ++ []
def dkwX1_longest_5 : List UInt8 := [21, 4, 163, 0, 6, 167, 0, 16, 21, 7, 4, 96, 21, 6, 100, 54, 4, 21, 6, 54, 5, 132, 7, 1]
abbrev dktX1_longest_5 : List UInt8 := dkwX1_longest_5 ++ dktX1_longest_6
def dkwX1_longest_4 : List UInt8 := [182, 1, 26, 42, 180, 0, 154, 180, 0, 23, 28, 133, 148, 157, 0, 31, 21, 7, 4, 96, 21, 6, 100]
abbrev dktX1_longest_4 : List UInt8 := dkwX1_longest_4 ++ dktX1_longest_5
def dkwX1_longest_3 : List UInt8 := [180, 0, 170, 21, 7, 46, 182, 1, 23, 42, 42, 180, 0, 154, 42, 180, 0, 154, 42, 180, 0, 147]
abbrev dktX1_longest_3 : List UInt8 := dkwX1_longest_3 ++ dktX1_longest_4
def dkwX1_longest_2 : List UInt8 := [180, 0, 154, 182, 1, 35, 21, 6, 54, 7, 21, 7, 29, 162, 0, 81, 42, 42, 180, 0, 147, 42]
abbrev dktX1_longest_2 : List UInt8 := dkwX1_longest_2 ++ dktX1_longest_3
def dkwX1_longest_1 : List UInt8 := [180, 0, 170, 182, 1, 69, 62, 3, 54, 4, 2, 54, 5, 3, 54, 6, 21, 6, 29, 162, 0, 105, 42, 42]
abbrev dktX1_longest_1 : List UInt8 := dkwX1_longest_1 ++ dktX1_longest_2
def dkwX1_longest_0 : List UInt8 := [27, 184, 1, 45, 154, 0, 5, 2, 172, 42, 180, 0, 162, 27, 185, 1, 51, 2, 0, 192, 0, 157, 42]
abbrev dktX1_longest_0 : List UInt8 := dkwX1_longest_0 ++ dktX1_longest_1
theorem dksX1_longest_0 : cX1_longest.data.toList.drop 0 = dktX1_longest_0 := by decide +kernel
theorem dksX1_longest_1 : cX1_longest.data.toList.drop 23 = dktX1_longest_1 := dk_seg dksX1_longest_0 23 rfl rfl
theorem dksX1_longest_2 : cX1_longest.data.toList.drop 47 = dktX1_longest_2 := dk_seg dksX1_longest_1 24 rfl rfl
theorem dksX1_longest_3 : cX1_longest.data.toList.drop 69 = dktX1_longest_3 := dk_seg dksX1_longest_2 22 rfl rfl
theorem dksX1_longest_4 : cX1_longest.data.toList.drop 91 = dktX1_longest_4 := dk_seg dksX1_longest_3 22 rfl rfl
theorem dksX1_longest_5 : cX1_longest.data.toList.drop 114 = dktX1_longest_5 := dk_seg dksX1_longest_4 23 rfl rfl
theorem dksX1_longest_6 : cX1_longest.data.toList.drop 138 = dktX1_longest_6 := dk_seg dksX1_longest_5 24 rfl rfl
theorem dX1_longest_0 : decode cX1_longest 0 = .ok (.iload_n 1, 1) := dk_27 (dk_at dksX1_longest_0 0 rfl rfl)
theorem dX1_longest_1 : decode cX1_longest 1 = .ok (.invokestatic 301, 3) := dk_184 1 45 (dk_at dksX1_longest_0 1 rfl rfl)
theorem dX1_longest_4 : decode cX1_longest 4 = .ok (.ifCond .ne 5, 3) := dk_154 0 5 (dk_at dksX1_longest_0 4 rfl rfl)
theorem dX1_longest_7 : decode cX1_longest 7 = .ok (.iconst (-1), 1) := dk_2 (dk_at dksX1_longest_0 7 rfl rfl)
theorem dX1_longest_8 : decode cX1_longest 8 = .ok (.ireturn, 1) := dk_172 (dk_at dksX1_longest_0 8 rfl rfl)
theorem dX1_longest_9 : decode cX1_longest 9 = .ok (.aload_n 0, 1) := dk_42 (dk_at dksX1_longest_0 9 rfl rfl)
theorem dX1_longest_10 : decode cX1_longest 10 = .ok (.getfield 162, 3) := dk_180 0 162 (dk_at dksX1_longest_0 10 rfl rfl)
theorem dX1_longest_13 : decode cX1_longest 13 = .ok (.iload_n 1, 1) := dk_27 (dk_at dksX1_longest_0 13 rfl rfl)
theorem dX1_longest_14 : decode cX1_longest 14 = .ok (.invokeinterface 307 2, 5) := by decide +kernel
theorem dX1_longest_19 : decode cX1_longest 19 = .ok (.checkcast 157, 3) := dk_192 0 157 (dk_at dksX1_longest_0 19 rfl rfl)
theorem dX1_longest_22 : decode cX1_longest 22 = .ok (.aload_n 0, 1) := dk_42 (dk_at dksX1_longest_0 22 rfl rfl)
theorem dX1_longest_23 : decode cX1_longest 23 = .ok (.getfield 170, 3) := dk_180 0 170 (dk_at dksX1_longest_1 0 rfl rfl)
theorem dX1_longest_26 : decode cX1_longest 26 = .ok (.invokevirtual 325, 3) := dk_182 1 69 (dk_at dksX1_longest_1 3 rfl rfl)
theorem dX1_longest_29 : decode cX1_longest 29 = .ok (.istore_n 3, 1) := dk_62 (dk_at dksX1_longest_1 6 rfl rfl)
theorem dX1_longest_30 : decode cX1_longest 30 = .ok (.iconst 0, 1) := dk_3 (dk_at dksX1_longest_1 7 rfl rfl)
theorem dX1_longest_31 : decode cX1_longest 31 = .ok (.istore 4, 2) := dk_54 4 (dk_at dksX1_longest_1 8 rfl rfl)
theorem dX1_longest_33 : decode cX1_longest 33 = .ok (.iconst (-1), 1) := dk_2 (dk_at dksX1_longest_1 10 rfl rfl)
theorem dX1_longest_34 : decode cX1_longest 34 = .ok (.istore 5, 2) := dk_54 5 (dk_at dksX1_longest_1 11 rfl rfl)
theorem dX1_longest_36 : decode cX1_longest 36 = .ok (.iconst 0, 1) := dk_3 (dk_at dksX1_longest_1 13 rfl rfl)
theorem dX1_longest_37 : decode cX1_longest 37 = .ok (.istore 6, 2) := dk_54 6 (dk_at dksX1_longest_1 14 rfl rfl)
theorem dX1_longest_39 : decode cX1_longest 39 = .ok (.iload 6, 2) := dk_21 6 (dk_at dksX1_longest_1 16 rfl rfl)
theorem dX1_longest_41 : decode cX1_longest 41 = .ok (.iload_n 3, 1) := dk_29 (dk_at dksX1_longest_1 18 rfl rfl)
theorem dX1_longest_42 : decode cX1_longest 42 = .ok (.if_icmp .ge 105, 3) := dk_162 0 105 (dk_at dksX1_longest_1 19 rfl rfl)
theorem dX1_longest_45 : decode cX1_longest 45 = .ok (.aload_n 0, 1) := dk_42 (dk_at dksX1_longest_1 22 rfl rfl)
theorem dX1_longest_46 : decode cX1_longest 46 = .ok (.aload_n 0, 1) := dk_42 (dk_at dksX1_longest_1 23 rfl rfl)
theorem dX1_longest_47 : decode cX1_longest 47 = .ok (.getfield 154, 3) := dk_180 0 154 (dk_at dksX1_longest_2 0 rfl rfl)
theorem dX1_longest_50 : decode cX1_longest 50 = .ok (.invokevirtual 291, 3) := dk_182 1 35 (dk_at dksX1_longest_2 3 rfl rfl)
theorem dX1_longest_53 : decode cX1_longest 53 = .ok (.iload 6, 2) := dk_21 6 (dk_at dksX1_longest_2 6 rfl rfl)
theorem dX1_longest_55 : decode cX1_longest 55 = .ok (.istore 7, 2) := dk_54 7 (dk_at dksX1_longest_2 8 rfl rfl)
theorem dX1_longest_57 : decode cX1_longest 57 = .ok (.iload 7, 2) := dk_21 7 (dk_at dksX1_longest_2 10 rfl rfl)
theorem dX1_longest_59 : decode cX1_longest 59 = .ok (.iload_n 3, 1) := dk_29 (dk_at dksX1_longest_2 12 rfl rfl)
theorem dX1_longest_60 : decode cX1_longest 60 = .ok (.if_icmp .ge 81, 3) := dk_162 0 81 (dk_at dksX1_longest_2 13 rfl rfl)
theorem dX1_longest_63 : decode cX1_longest 63 = .ok (.aload_n 0, 1) := dk_42 (dk_at dksX1_longest_2 16 rfl rfl)
theorem dX1_longest_64 : decode cX1_longest 64 = .ok (.aload_n 0, 1) := dk_42 (dk_at dksX1_longest_2 17 rfl rfl)
theorem dX1_longest_65 : decode cX1_longest 65 = .ok (.getfield 147, 3) := dk_180 0 147 (dk_at dksX1_longest_2 18 rfl rfl)
theorem dX1_longest_68 : decode cX1_longest 68 = .ok (.aload_n 0, 1) := dk_42 (dk_at dksX1_longest_2 21 rfl rfl)
theorem dX1_longest_69 : decode cX1_longest 69 = .ok (.getfield 170, 3) := dk_180 0 170 (dk_at dksX1_longest_3 0 rfl rfl)
theorem dX1_longest_72 : decode cX1_longest 72 = .ok (.iload 7, 2) := dk_21 7 (dk_at dksX1_longest_3 3 rfl rfl)
theorem dX1_longest_74 : decode cX1_longest 74 = .ok (.iaload, 1) := dk_46 (dk_at dksX1_longest_3 5 rfl rfl)
theorem dX1_longest_75 : decode cX1_longest 75 = .ok (.invokevirtual 279, 3) := dk_182 1 23 (dk_at dksX1_longest_3 6 rfl rfl)
theorem dX1_longest_78 : decode cX1_longest 78 = .ok (.aload_n 0, 1) := dk_42 (dk_at dksX1_longest_3 9 rfl rfl)
theorem dX1_longest_79 : decode cX1_longest 79 = .ok (.aload_n 0, 1) := dk_42 (dk_at dksX1_longest_3 10 rfl rfl)
theorem dX1_longest_80 : decode cX1_longest 80 = .ok (.getfield 154, 3) := dk_180 0 154 (dk_at dksX1_longest_3 11 rfl rfl)
theorem dX1_longest_83 : decode cX1_longest 83 = .ok (.aload_n 0, 1) := dk_42 (dk_at dksX1_longest_3 14 rfl rfl)
theorem dX1_longest_84 : decode cX1_longest 84 = .ok (.getfield 154, 3) := dk_180 0 154 (dk_at dksX1_longest_3 15 rfl rfl)
theorem dX1_longest_87 : decode cX1_longest 87 = .ok (.aload_n 0, 1) := dk_42 (dk_at dksX1_longest_3 18 rfl rfl)
theorem dX1_longest_88 : decode cX1_longest 88 = .ok (.getfield 147, 3) := dk_180 0 147 (dk_at dksX1_longest_3 19 rfl rfl)
theorem dX1_longest_91 : decode cX1_longest 91 = .ok (.invokevirtual 282, 3) := dk_182 1 26 (dk_at dksX1_longest_4 0 rfl rfl)
theorem dX1_longest_94 : decode cX1_longest 94 = .ok (.aload_n 0, 1) := dk_42 (dk_at dksX1_longest_4 3 rfl rfl)
theorem dX1_longest_95 : decode cX1_longest 95 = .ok (.getfield 154, 3) := dk_180 0 154 (dk_at dksX1_longest_4 4 rfl rfl)
theorem dX1_longest_98 : decode cX1_longest 98 = .ok (.getfield 23, 3) := dk_180 0 23 (dk_at dksX1_longest_4 7 rfl rfl)
theorem dX1_longest_101 : decode cX1_longest 101 = .ok (.iload_n 2, 1) := dk_28 (dk_at dksX1_longest_4 10 rfl rfl)
theorem dX1_longest_102 : decode cX1_longest 102 = .ok (.i2l, 1) := dk_133 (dk_at dksX1_longest_4 11 rfl rfl)
theorem dX1_longest_103 : decode cX1_longest 103 = .ok (.lcmp, 1) := dk_148 (dk_at dksX1_longest_4 12 rfl rfl)
theorem dX1_longest_104 : decode cX1_longest 104 = .ok (.ifCond .gt 31, 3) := dk_157 0 31 (dk_at dksX1_longest_4 13 rfl rfl)
theorem dX1_longest_107 : decode cX1_longest 107 = .ok (.iload 7, 2) := dk_21 7 (dk_at dksX1_longest_4 16 rfl rfl)
theorem dX1_longest_109 : decode cX1_longest 109 = .ok (.iconst 1, 1) := dk_4 (dk_at dksX1_longest_4 18 rfl rfl)
theorem dX1_longest_110 : decode cX1_longest 110 = .ok (.iadd, 1) := dk_96 (dk_at dksX1_longest_4 19 rfl rfl)
theorem dX1_longest_111 : decode cX1_longest 111 = .ok (.iload 6, 2) := dk_21 6 (dk_at dksX1_longest_4 20 rfl rfl)
theorem dX1_longest_113 : decode cX1_longest 113 = .ok (.isub, 1) := dk_100 (dk_at dksX1_longest_4 22 rfl rfl)
theorem dX1_longest_114 : decode cX1_longest 114 = .ok (.iload 4, 2) := dk_21 4 (dk_at dksX1_longest_5 0 rfl rfl)
theorem dX1_longest_116 : decode cX1_longest 116 = .ok (.if_icmp .gt 6, 3) := dk_163 0 6 (dk_at dksX1_longest_5 2 rfl rfl)
theorem dX1_longest_119 : decode cX1_longest 119 = .ok (.goto 16, 3) := dk_167 0 16 (dk_at dksX1_longest_5 5 rfl rfl)
theorem dX1_longest_122 : decode cX1_longest 122 = .ok (.iload 7, 2) := dk_21 7 (dk_at dksX1_longest_5 8 rfl rfl)
theorem dX1_longest_124 : decode cX1_longest 124 = .ok (.iconst 1, 1) := dk_4 (dk_at dksX1_longest_5 10 rfl rfl)
theorem dX1_longest_125 : decode cX1_longest 125 = .ok (.iadd, 1) := dk_96 (dk_at dksX1_longest_5 11 rfl rfl)
theorem dX1_longest_126 : decode cX1_longest 126 = .ok (.iload 6, 2) := dk_21 6 (dk_at dksX1_longest_5 12 rfl rfl)
theorem dX1_longest_128 : decode cX1_longest 128 = .ok (.isub, 1) := dk_100 (dk_at dksX1_longest_5 14 rfl rfl)
theorem dX1_longest_129 : decode cX1_longest 129 = .ok (.istore 4, 2) := dk_54 4 (dk_at dksX1_longest_5 15 rfl rfl)
theorem dX1_longest_131 : decode cX1_longest 131 = .ok (.iload 6, 2) := dk_21 6 (dk_at dksX1_longest_5 17 rfl rfl)
theorem dX1_longest_133 : decode cX1_longest 133 = .ok (.istore 5, 2) := dk_54 5 (dk_at dksX1_longest_5 19 rfl rfl)
theorem dX1_longest_135 : decode cX1_longest 135 = .ok (.iinc 7 1, 3) := dk_132 7 1 (dk_at dksX1_longest_5 21 rfl rfl)
theorem dX1_longest_138 : decode cX1_longest 138 = .ok (.goto (-81), 3) := dk_167 255 175 (dk_at dksX1_longest_6 0 rfl rfl)
theorem dX1_longest_141 : decode cX1_longest 141 = .ok (.iinc 6 1, 3) := dk_132 6 1 (dk_at dksX1_longest_6 3 rfl rfl)
theorem dX1_longest_144 : decode cX1_longest 144 = .ok (.goto (-105), 3) := dk_167 255 151 (dk_at dksX1_longest_6 6 rfl rfl)
theorem dX1_longest_147 : decode cX1_longest 147 = .ok (.aload_n 0, 1) := dk_42 (dk_at dksX1_longest_6 9 rfl rfl)
theorem dX1_longest_148 : decode cX1_longest 148 = .ok (.iconst 0, 1) := dk_3 (dk_at dksX1_longest_6 10 rfl rfl)
theorem dX1_longest_149 : decode cX1_longest 149 = .ok (.putfield 199, 3) := dk_181 0 199 (dk_at dksX1_longest_6 11 rfl rfl)
theorem dX1_longest_152 : decode cX1_longest 152 = .ok (.aload_n 0, 1) := dk_42 (dk_at dksX1_longest_6 14 rfl rfl)
theorem dX1_longest_153 : decode cX1_longest 153 = .ok (.iload 5, 2) := dk_21 5 (dk_at dksX1_longest_6 15 rfl rfl)
theorem dX1_longest_155 : decode cX1_longest 155 = .ok (.i2l, 1) := dk_133 (dk_at dksX1_longest_6 17 rfl rfl)
theorem dX1_longest_156 : decode cX1_longest 156 = .ok (.invokevirtual 202, 3) := dk_182 0 202 (dk_at dksX1_longest_6 18 rfl rfl)
theorem dX1_longest_159 : decode cX1_longest 159 = .ok (.iload 4, 2) := dk_21 4 (dk_at dksX1_longest_6 21 rfl rfl)
theorem dX1_longest_161 : decode cX1_longest 161 = .ok (.ireturn, 1) := dk_172 (dk_at dksX1_longest_6 23 rfl rfl)
def dkwX1_greatest_6 : List UInt8 := [182, 1, 139, 42, 3, 181, 0, 199, 42, 42, 180, 0, 154, 182, 1, 29, 21, 4, 172]
abbrev dktX1_greatest_6 : List UInt8 := dkwX1_greatest_6 ++ []
def dkwX1_greatest_5 : List UInt8 := [55, 5, 132, 7, 1, 167, 255, 192, 42, 42, 180, 0, 154, 42, 180, 0, 170, 21, 4, 21, 4, 28, 96]
abbrev dktX1_greatest_5 : List UInt8 := dkwX1_greatest_5 ++ dktX1_greatest_6
def dkwX1_greatest_4 : List UInt8 := [180, 0, 29, 22, 5, 148, 157, 0, 6, 167, 0, 16, 21, 7, 54, 4, 42, 180, 0, 154, 180, 0, 29]
abbrev dktX1_greatest_4 : List UInt8 := dkwX1_greatest_4 ++ dktX1_greatest_5
def dkwX1_greatest_3 : List UInt8 := [180, 0, 170, 21, 7, 21, 7, 28, 96, 182, 1, 139, 21, 4, 2, 159, 0, 19, 42, 180, 0, 154]
abbrev dktX1_greatest_3 : List UInt8 := dkwX1_greatest_3 ++ dktX1_greatest_4
def dkwX1_greatest_2 : List UInt8 := [2, 54, 4, 9, 55, 5, 3, 54, 7, 21, 7, 28, 96, 29, 163, 0, 62, 42, 42, 180, 0, 154, 42]
abbrev dktX1_greatest_2 : List UInt8 := dkwX1_greatest_2 ++ dktX1_greatest_3
def dkwX1_greatest_1 : List UInt8 := [185, 1, 51, 2, 0, 192, 0, 157, 42, 180, 0, 170, 182, 1, 69, 62, 29, 28, 162, 0, 6, 16, 254, 172]
abbrev dktX1_greatest_1 : List UInt8 := dkwX1_greatest_1 ++ dktX1_greatest_2
def dkwX1_greatest_0 : List UInt8 := [27, 184, 1, 45, 153, 0, 11, 42, 28, 182, 1, 143, 154, 0, 5, 2, 172, 42, 180, 0, 162, 27]
abbrev dktX1_greatest_0 : List UInt8 := dkwX1_greatest_0 ++ dktX1_greatest_1
theorem dksX1_greatest_0 : cX1_greatest.data.toList.drop 0 = dktX1_greatest_0 := by decide +kernel
theorem dksX1_greatest_1 : cX1_greatest.data.toList.drop 22 = dktX1_greatest_1 := dk_seg dksX1_greatest_0 22 rfl rfl
theorem dksX1_greatest_2 : cX1_greatest.data.toList.drop 46 = dktX1_greatest_2 := dk_seg dksX1_greatest_1 24 rfl rfl
theorem dksX1_greatest_3 : cX1_greatest.data.toList.drop 69 = dktX1_greatest_3 := dk_seg dksX1_greatest_2 23 rfl rfl
theorem dksX1_greatest_4 : cX1_greatest.data.toList.drop 91 = dktX1_greatest_4 := dk_seg dksX1_greatest_3 22 rfl rfl
theorem dksX1_greatest_5 : cX1_greatest.data.toList.drop 114 = dktX1_greatest_5 := dk_seg dksX1_greatest_4 23 rfl rfl
theorem dksX1_greatest_6 : cX1_greatest.data.toList.drop 137 = dktX1_greatest_6 := dk_seg dksX1_greatest_5 23 rfl rfl
theorem dX1_greatest_0 : decode cX1_greatest 0 = .ok (.iload_n 1, 1) := dk_27 (dk_at dksX1_greatest_0 0 rfl rfl)
theorem dX1_greatest_1 : decode cX1_greatest 1 = .ok (.invokestatic 301, 3) := dk_184 1 45 (dk_at dksX1_greatest_0 1 rfl rfl)
theorem dX1_greatest_4 : decode cX1_greatest 4 = .ok (.ifCond .eq 11, 3) := dk_153 0 11 (dk_at dksX1_greatest_0 4 rfl rfl)
theorem dX1_greatest_7 : decode cX1_greatest 7 = .ok (.aload_n 0, 1) := dk_42 (dk_at dksX1_greatest_0 7 rfl rfl)
theorem dX1_greatest_8 : decode cX1_greatest 8 = .ok (.iload_n 2, 1) := dk_28 (dk_at dksX1_greatest_0 8 rfl rfl)
theorem dX1_greatest_9 : decode cX1_greatest 9 = .ok (.invokevirtual 399, 3) := dk_182 1 143 (dk_at dksX1_greatest_0 9 rfl rfl)
theorem dX1_greatest_12 : decode cX1_greatest 12 = .ok (.ifCond .ne 5, 3) := dk_154 0 5 (dk_at dksX1_greatest_0 12 rfl rfl)
theorem dX1_greatest_15 : decode cX1_greatest 15 = .ok (.iconst (-1), 1) := dk_2 (dk_at dksX1_greatest_0 15 rfl rfl)
theorem dX1_greatest_16 : decode cX1_greatest 16 = .ok (.ireturn, 1) := dk_172 (dk_at dksX1_greatest_0 16 rfl rfl)
theorem dX1_greatest_17 : decode cX1_greatest 17 = .ok (.aload_n 0, 1) := dk_42 (dk_at dksX1_greatest_0 17 rfl rfl)
theorem dX1_greatest_18 : decode cX1_greatest 18 = .ok (.getfield 162, 3) := dk_180 0 162 (dk_at dksX1_greatest_0 18 rfl rfl)
theorem dX1_greatest_21 : decode cX1_greatest 21 = .ok (.iload_n 1, 1) := dk_27 (dk_at dksX1_greatest_0 21 rfl rfl)
theorem dX1_greatest_22 : decode cX1_greatest 22 = .ok (.invokeinterface 307 2, 5) := by decide +kernel
theorem dX1_greatest_27 : decode cX1_greatest 27 = .ok (.checkcast 157, 3) := dk_192 0 157 (dk_at dksX1_greatest_1 5 rfl rfl)
theorem dX1_greatest_30 : decode cX1_greatest 30 = .ok (.aload_n 0, 1) := dk_42 (dk_at dksX1_greatest_1 8 rfl rfl)
theorem dX1_greatest_31 : decode cX1_greatest 31 = .ok (.getfield 170, 3) := dk_180 0 170 (dk_at dksX1_greatest_1 9 rfl rfl)
theorem dX1_greatest_34 : decode cX1_greatest 34 = .ok (.invokevirtual 325, 3) := dk_182 1 69 (dk_at dksX1_greatest_1 12 rfl rfl)
theorem dX1_greatest_37 : decode cX1_greatest 37 = .ok (.istore_n 3, 1) := dk_62 (dk_at dksX1_greatest_1 15 rfl rfl)
theorem dX1_greatest_38 : decode cX1_greatest 38 = .ok (.iload_n 3, 1) := dk_29 (dk_at dksX1_greatest_1 16 rfl rfl)
theorem dX1_greatest_39 : decode cX1_greatest 39 = .ok (.iload_n 2, 1) := dk_28 (dk_at dksX1_greatest_1 17 rfl rfl)
theorem dX1_greatest_40 : decode cX1_greatest 40 = .ok (.if_icmp .ge 6, 3) := dk_162 0 6 (dk_at dksX1_greatest_1 18 rfl rfl)
theorem dX1_greatest_43 : decode cX1_greatest 43 = .ok (.bipush (-2), 2) := dk_16 254 (dk_at dksX1_greatest_1 21 rfl rfl)
theorem dX1_greatest_45 : decode cX1_greatest 45 = .ok (.ireturn, 1) := dk_172 (dk_at dksX1_greatest_1 23 rfl rfl)
theorem dX1_greatest_46 : decode cX1_greatest 46 = .ok (.iconst (-1), 1) := dk_2 (dk_at dksX1_greatest_2 0 rfl rfl)
theorem dX1_greatest_47 : decode cX1_greatest 47 = .ok (.istore 4, 2) := dk_54 4 (dk_at dksX1_greatest_2 1 rfl rfl)
theorem dX1_greatest_49 : decode cX1_greatest 49 = .ok (.lconst 0, 1) := dk_9 (dk_at dksX1_greatest_2 3 rfl rfl)
theorem dX1_greatest_50 : decode cX1_greatest 50 = .ok (.lstore 5, 2) := dk_55 5 (dk_at dksX1_greatest_2 4 rfl rfl)
theorem dX1_greatest_52 : decode cX1_greatest 52 = .ok (.iconst 0, 1) := dk_3 (dk_at dksX1_greatest_2 6 rfl rfl)
theorem dX1_greatest_53 : decode cX1_greatest 53 = .ok (.istore 7, 2) := dk_54 7 (dk_at dksX1_greatest_2 7 rfl rfl)
theorem dX1_greatest_55 : decode cX1_greatest 55 = .ok (.iload 7, 2) := dk_21 7 (dk_at dksX1_greatest_2 9 rfl rfl)
theorem dX1_greatest_57 : decode cX1_greatest 57 = .ok (.iload_n 2, 1) := dk_28 (dk_at dksX1_greatest_2 11 rfl rfl)
theorem dX1_greatest_58 : decode cX1_greatest 58 = .ok (.iadd, 1) := dk_96 (dk_at dksX1_greatest_2 12 rfl rfl)
theorem dX1_greatest_59 : decode cX1_greatest 59 = .ok (.iload_n 3, 1) := dk_29 (dk_at dksX1_greatest_2 13 rfl rfl)
theorem dX1_greatest_60 : decode cX1_greatest 60 = .ok (.if_icmp .gt 62, 3) := dk_163 0 62 (dk_at dksX1_greatest_2 14 rfl rfl)
theorem dX1_greatest_63 : decode cX1_greatest 63 = .ok (.aload_n 0, 1) := dk_42 (dk_at dksX1_greatest_2 17 rfl rfl)
theorem dX1_greatest_64 : decode cX1_greatest 64 = .ok (.aload_n 0, 1) := dk_42 (dk_at dksX1_greatest_2 18 rfl rfl)
theorem dX1_greatest_65 : decode cX1_greatest 65 = .ok (.getfield 154, 3) := dk_180 0 154 (dk_at dksX1_greatest_2 19 rfl rfl)
theorem dX1_greatest_68 : decode cX1_greatest 68 = .ok (.aload_n 0, 1) := dk_42 (dk_at dksX1_greatest_2 22 rfl rfl)
theorem dX1_greatest_69 : decode cX1_greatest 69 = .ok (.getfield 170, 3) := dk_180 0 170 (dk_at dksX1_greatest_3 0 rfl rfl)
theorem dX1_greatest_72 : decode cX1_greatest 72 = .ok (.iload 7, 2) := dk_21 7 (dk_at dksX1_greatest_3 3 rfl rfl)
theorem dX1_greatest_74 : decode cX1_greatest 74 = .ok (.iload 7, 2) := dk_21 7 (dk_at dksX1_greatest_3 5 rfl rfl)
theorem dX1_greatest_76 : decode cX1_greatest 76 = .ok (.iload_n 2, 1) := dk_28 (dk_at dksX1_greatest_3 7 rfl rfl)
theorem dX1_greatest_77 : decode cX1_greatest 77 = .ok (.iadd, 1) := dk_96 (dk_at dksX1_greatest_3 8 rfl rfl)
theorem dX1_greatest_78 : decode cX1_greatest 78 = .ok (.invokevirtual 395, 3) := dk_182 1 139 (dk_at dksX1_greatest_3 9 rfl rfl)
theorem dX1_greatest_81 : decode cX1_greatest 81 = .ok (.iload 4, 2) := dk_21 4 (dk_at dksX1_greatest_3 12 rfl rfl)
theorem dX1_greatest_83 : decode cX1_greatest 83 = .ok (.iconst (-1), 1) := dk_2 (dk_at dksX1_greatest_3 14 rfl rfl)
theorem dX1_greatest_84 : decode cX1_greatest 84 = .ok (.if_icmp .eq 19, 3) := dk_159 0 19 (dk_at dksX1_greatest_3 15 rfl rfl)
theorem dX1_greatest_87 : decode cX1_greatest 87 = .ok (.aload_n 0, 1) := dk_42 (dk_at dksX1_greatest_3 18 rfl rfl)
theorem dX1_greatest_88 : decode cX1_greatest 88 = .ok (.getfield 154, 3) := dk_180 0 154 (dk_at dksX1_greatest_3 19 rfl rfl)
theorem dX1_greatest_91 : decode cX1_greatest 91 = .ok (.getfield 29, 3) := dk_180 0 29 (dk_at dksX1_greatest_4 0 rfl rfl)
theorem dX1_greatest_94 : decode cX1_greatest 94 = .ok (.lload 5, 2) := dk_22 5 (dk_at dksX1_greatest_4 3 rfl rfl)
theorem dX1_greatest_96 : decode cX1_greatest 96 = .ok (.lcmp, 1) := dk_148 (dk_at dksX1_greatest_4 5 rfl rfl)
theorem dX1_greatest_97 : decode cX1_greatest 97 = .ok (.ifCond .gt 6, 3) := dk_157 0 6 (dk_at dksX1_greatest_4 6 rfl rfl)
theorem dX1_greatest_100 : decode cX1_greatest 100 = .ok (.goto 16, 3) := dk_167 0 16 (dk_at dksX1_greatest_4 9 rfl rfl)
theorem dX1_greatest_103 : decode cX1_greatest 103 = .ok (.iload 7, 2) := dk_21 7 (dk_at dksX1_greatest_4 12 rfl rfl)
theorem dX1_greatest_105 : decode cX1_greatest 105 = .ok (.istore 4, 2) := dk_54 4 (dk_at dksX1_greatest_4 14 rfl rfl)
theorem dX1_greatest_107 : decode cX1_greatest 107 = .ok (.aload_n 0, 1) := dk_42 (dk_at dksX1_greatest_4 16 rfl rfl)
theorem dX1_greatest_108 : decode cX1_greatest 108 = .ok (.getfield 154, 3) := dk_180 0 154 (dk_at dksX1_greatest_4 17 rfl rfl)
theorem dX1_greatest_111 : decode cX1_greatest 111 = .ok (.getfield 29, 3) := dk_180 0 29 (dk_at dksX1_greatest_4 20 rfl rfl)
theorem dX1_greatest_114 : decode cX1_greatest 114 = .ok (.lstore 5, 2) := dk_55 5 (dk_at dksX1_greatest_5 0 rfl rfl)
theorem dX1_greatest_116 : decode cX1_greatest 116 = .ok (.iinc 7 1, 3) := dk_132 7 1 (dk_at dksX1_greatest_5 2 rfl rfl)
theorem dX1_greatest_119 : decode cX1_greatest 119 = .ok (.goto (-64), 3) := dk_167 255 192 (dk_at dksX1_greatest_5 5 rfl rfl)
theorem dX1_greatest_122 : decode cX1_greatest 122 = .ok (.aload_n 0, 1) := dk_42 (dk_at dksX1_greatest_5 8 rfl rfl)
theorem dX1_greatest_123 : decode cX1_greatest 123 = .ok (.aload_n 0, 1) := dk_42 (dk_at dksX1_greatest_5 9 rfl rfl)
theorem dX1_greatest_124 : decode cX1_greatest 124 = .ok (.getfield 154, 3) := dk_180 0 154 (dk_at dksX1_greatest_5 10 rfl rfl)
theorem dX1_greatest_127 : decode cX1_greatest 127 = .ok (.aload_n 0, 1) := dk_42 (dk_at dksX1_greatest_5 13 rfl rfl)
theorem dX1_greatest_128 : decode cX1_greatest 128 = .ok (.getfield 170, 3) := dk_180 0 170 (dk_at dksX1_greatest_5 14 rfl rfl)
theorem dX1_greatest_131 : decode cX1_greatest 131 = .ok (.iload 4, 2) := dk_21 4 (dk_at dksX1_greatest_5 17 rfl rfl)
theorem dX1_greatest_133 : decode cX1_greatest 133 = .ok (.iload 4, 2) := dk_21 4 (dk_at dksX1_greatest_5 19 rfl rfl)
theorem dX1_greatest_135 : decode cX1_greatest 135 = .ok (.iload_n 2, 1) := dk_28 (dk_at dksX1_greatest_5 21 rfl rfl)
theorem dX1_greatest_136 : decode cX1_greatest 136 = .ok (.iadd, 1) := dk_96 (dk_at dksX1_greatest_5 22 rfl rfl)
theorem dX1_greatest_137 : decode cX1_greatest 137 = .ok (.invokevirtual 395, 3) := dk_182 1 139 (dk_at dksX1_greatest_6 0 rfl rfl)
theorem dX1_greatest_140 : decode cX1_greatest 140 = .ok (.aload_n 0, 1) := dk_42 (dk_at dksX1_greatest_6 3 rfl rfl)
theorem dX1_greatest_141 : decode cX1_greatest 141 = .ok (.iconst 0, 1) := dk_3 (dk_at dksX1_greatest_6 4 rfl rfl)
theorem dX1_greatest_142 : decode cX1_greatest 142 = .ok (.putfield 199, 3) := dk_181 0 199 (dk_at dksX1_greatest_6 5 rfl rfl)
theorem dX1_greatest_145 : decode cX1_greatest 145 = .ok (.aload_n 0, 1) := dk_42 (dk_at dksX1_greatest_6 8 rfl rfl)
theorem dX1_greatest_146 : decode cX1_greatest 146 = .ok (.aload_n 0, 1) := dk_42 (dk_at dksX1_greatest_6 9 rfl rfl)
theorem dX1_greatest_147 : decode cX1_greatest 147 = .ok (.getfield 154, 3) := dk_180 0 154 (dk_at dksX1_greatest_6 10 rfl rfl)
theorem dX1_greatest_150 : decode cX1_greatest 150 = .ok (.invokevirtual 285, 3) := dk_182 1 29 (dk_at dksX1_greatest_6 13 rfl rfl)
theorem dX1_greatest_153 : decode cX1_greatest 153 = .ok (.iload 4, 2) := dk_21 4 (dk_at dksX1_greatest_6 16 rfl rfl)
theorem dX1_greatest_155 : decode cX1_greatest 155 = .ok (.ireturn, 1) := dk_172 (dk_at dksX1_greatest_6 18 rfl rfl)
def dkwX1_finds_7 : List UInt8 := [132, 5, 1, 167, 255, 126, 16, 254, 172]
abbrev dktX1_finds_7 : List UInt8 := dkwX1_finds_7 ++ []
def dkwX1_finds_6 : List UInt8 := [42, 3, 181, 0, 199, 42, 21, 6, 133, 182, 0, 202, 42, 21, 7, 133, 182, 0, 202, 21, 5, 172]
abbrev dktX1_finds_6 : List UInt8 := dkwX1_finds_6 ++ dktX1_finds_7
def dkwX1_finds_5 : List UInt8 := [167, 0, 5, 21, 6, 54, 6, 132, 7, 1, 132, 8, 1, 167, 255, 178, 21, 7, 154, 0, 6, 167, 0, 25]
abbrev dktX1_finds_5 : List UInt8 := dkwX1_finds_5 ++ dktX1_finds_6
def dkwX1_finds_4 : List UInt8 := [180, 0, 154, 180, 0, 29, 29, 133, 148, 153, 0, 6, 167, 0, 20, 21, 7, 154, 0, 8, 21, 8]
abbrev dktX1_finds_4 : List UInt8 := dkwX1_finds_4 ++ dktX1_finds_5
def dkwX1_finds_3 : List UInt8 := [21, 8, 21, 5, 96, 182, 1, 139, 42, 180, 0, 154, 180, 0, 23, 28, 133, 148, 154, 0, 36, 42]
abbrev dktX1_finds_3 : List UInt8 := dkwX1_finds_3 ++ dktX1_finds_4
def dkwX1_finds_2 : List UInt8 := [3, 54, 8, 21, 8, 21, 5, 96, 21, 4, 163, 0, 74, 42, 42, 180, 0, 154, 42, 180, 0, 170, 21, 8]
abbrev dktX1_finds_2 : List UInt8 := dkwX1_finds_2 ++ dktX1_finds_3
def dkwX1_finds_1 : List UInt8 := [180, 0, 170, 182, 1, 69, 54, 4, 4, 54, 5, 21, 5, 21, 4, 163, 0, 129, 2, 54, 6, 3, 54, 7]
abbrev dktX1_finds_1 : List UInt8 := dkwX1_finds_1 ++ dktX1_finds_2
def dkwX1_finds_0 : List UInt8 := [27, 184, 1, 45, 154, 0, 5, 2, 172, 42, 180, 0, 162, 27, 185, 1, 51, 2, 0, 192, 0, 157, 42]
abbrev dktX1_finds_0 : List UInt8 := dkwX1_finds_0 ++ dktX1_finds_1
theorem dksX1_finds_0 : cX1_finds.data.toList.drop 0 = dktX1_finds_0 := by decide +kernel
theorem dksX1_finds_1 : cX1_finds.data.toList.drop 23 = dktX1_finds_1 := dk_seg dksX1_finds_0 23 rfl rfl
theorem dksX1_finds_2 : cX1_finds.data.toList.drop 47 = dktX1_finds_2 := dk_seg dksX1_finds_1 24 rfl rfl
theorem dksX1_finds_3 : cX1_finds.data.toList.drop 71 = dktX1_finds_3 := dk_seg dksX1_finds_2 24 rfl rfl
theorem dksX1_finds_4 : cX1_finds.data.toList.drop 93 = dktX1_finds_4 := dk_seg dksX1_finds_3 22 rfl rfl
theorem dksX1_finds_5 : cX1_finds.data.toList.drop 115 = dktX1_finds_5 := dk_seg dksX1_finds_4 22 rfl rfl
theorem dksX1_finds_6 : cX1_finds.data.toList.drop 139 = dktX1_finds_6 := dk_seg dksX1_finds_5 24 rfl rfl
theorem dksX1_finds_7 : cX1_finds.data.toList.drop 161 = dktX1_finds_7 := dk_seg dksX1_finds_6 22 rfl rfl
theorem dX1_finds_0 : decode cX1_finds 0 = .ok (.iload_n 1, 1) := dk_27 (dk_at dksX1_finds_0 0 rfl rfl)
theorem dX1_finds_1 : decode cX1_finds 1 = .ok (.invokestatic 301, 3) := dk_184 1 45 (dk_at dksX1_finds_0 1 rfl rfl)
theorem dX1_finds_4 : decode cX1_finds 4 = .ok (.ifCond .ne 5, 3) := dk_154 0 5 (dk_at dksX1_finds_0 4 rfl rfl)
theorem dX1_finds_7 : decode cX1_finds 7 = .ok (.iconst (-1), 1) := dk_2 (dk_at dksX1_finds_0 7 rfl rfl)
theorem dX1_finds_8 : decode cX1_finds 8 = .ok (.ireturn, 1) := dk_172 (dk_at dksX1_finds_0 8 rfl rfl)
theorem dX1_finds_9 : decode cX1_finds 9 = .ok (.aload_n 0, 1) := dk_42 (dk_at dksX1_finds_0 9 rfl rfl)
theorem dX1_finds_10 : decode cX1_finds 10 = .ok (.getfield 162, 3) := dk_180 0 162 (dk_at dksX1_finds_0 10 rfl rfl)
theorem dX1_finds_13 : decode cX1_finds 13 = .ok (.iload_n 1, 1) := dk_27 (dk_at dksX1_finds_0 13 rfl rfl)
theorem dX1_finds_14 : decode cX1_finds 14 = .ok (.invokeinterface 307 2, 5) := by decide +kernel
theorem dX1_finds_19 : decode cX1_finds 19 = .ok (.checkcast 157, 3) := dk_192 0 157 (dk_at dksX1_finds_0 19 rfl rfl)
theorem dX1_finds_22 : decode cX1_finds 22 = .ok (.aload_n 0, 1) := dk_42 (dk_at dksX1_finds_0 22 rfl rfl)
theorem dX1_finds_23 : decode cX1_finds 23 = .ok (.getfield 170, 3) := dk_180 0 170 (dk_at dksX1_finds_1 0 rfl rfl)
theorem dX1_finds_26 : decode cX1_finds 26 = .ok (.invokevirtual 325, 3) := dk_182 1 69 (dk_at dksX1_finds_1 3 rfl rfl)
theorem dX1_finds_29 : decode cX1_finds 29 = .ok (.istore 4, 2) := dk_54 4 (dk_at dksX1_finds_1 6 rfl rfl)
theorem dX1_finds_31 : decode cX1_finds 31 = .ok (.iconst 1, 1) := dk_4 (dk_at dksX1_finds_1 8 rfl rfl)
theorem dX1_finds_32 : decode cX1_finds 32 = .ok (.istore 5, 2) := dk_54 5 (dk_at dksX1_finds_1 9 rfl rfl)
theorem dX1_finds_34 : decode cX1_finds 34 = .ok (.iload 5, 2) := dk_21 5 (dk_at dksX1_finds_1 11 rfl rfl)
theorem dX1_finds_36 : decode cX1_finds 36 = .ok (.iload 4, 2) := dk_21 4 (dk_at dksX1_finds_1 13 rfl rfl)
theorem dX1_finds_38 : decode cX1_finds 38 = .ok (.if_icmp .gt 129, 3) := dk_163 0 129 (dk_at dksX1_finds_1 15 rfl rfl)
theorem dX1_finds_41 : decode cX1_finds 41 = .ok (.iconst (-1), 1) := dk_2 (dk_at dksX1_finds_1 18 rfl rfl)
theorem dX1_finds_42 : decode cX1_finds 42 = .ok (.istore 6, 2) := dk_54 6 (dk_at dksX1_finds_1 19 rfl rfl)
theorem dX1_finds_44 : decode cX1_finds 44 = .ok (.iconst 0, 1) := dk_3 (dk_at dksX1_finds_1 21 rfl rfl)
theorem dX1_finds_45 : decode cX1_finds 45 = .ok (.istore 7, 2) := dk_54 7 (dk_at dksX1_finds_1 22 rfl rfl)
theorem dX1_finds_47 : decode cX1_finds 47 = .ok (.iconst 0, 1) := dk_3 (dk_at dksX1_finds_2 0 rfl rfl)
theorem dX1_finds_48 : decode cX1_finds 48 = .ok (.istore 8, 2) := dk_54 8 (dk_at dksX1_finds_2 1 rfl rfl)
theorem dX1_finds_50 : decode cX1_finds 50 = .ok (.iload 8, 2) := dk_21 8 (dk_at dksX1_finds_2 3 rfl rfl)
theorem dX1_finds_52 : decode cX1_finds 52 = .ok (.iload 5, 2) := dk_21 5 (dk_at dksX1_finds_2 5 rfl rfl)
theorem dX1_finds_54 : decode cX1_finds 54 = .ok (.iadd, 1) := dk_96 (dk_at dksX1_finds_2 7 rfl rfl)
theorem dX1_finds_55 : decode cX1_finds 55 = .ok (.iload 4, 2) := dk_21 4 (dk_at dksX1_finds_2 8 rfl rfl)
theorem dX1_finds_57 : decode cX1_finds 57 = .ok (.if_icmp .gt 74, 3) := dk_163 0 74 (dk_at dksX1_finds_2 10 rfl rfl)
theorem dX1_finds_60 : decode cX1_finds 60 = .ok (.aload_n 0, 1) := dk_42 (dk_at dksX1_finds_2 13 rfl rfl)
theorem dX1_finds_61 : decode cX1_finds 61 = .ok (.aload_n 0, 1) := dk_42 (dk_at dksX1_finds_2 14 rfl rfl)
theorem dX1_finds_62 : decode cX1_finds 62 = .ok (.getfield 154, 3) := dk_180 0 154 (dk_at dksX1_finds_2 15 rfl rfl)
theorem dX1_finds_65 : decode cX1_finds 65 = .ok (.aload_n 0, 1) := dk_42 (dk_at dksX1_finds_2 18 rfl rfl)
theorem dX1_finds_66 : decode cX1_finds 66 = .ok (.getfield 170, 3) := dk_180 0 170 (dk_at dksX1_finds_2 19 rfl rfl)
theorem dX1_finds_69 : decode cX1_finds 69 = .ok (.iload 8, 2) := dk_21 8 (dk_at dksX1_finds_2 22 rfl rfl)
theorem dX1_finds_71 : decode cX1_finds 71 = .ok (.iload 8, 2) := dk_21 8 (dk_at dksX1_finds_3 0 rfl rfl)
theorem dX1_finds_73 : decode cX1_finds 73 = .ok (.iload 5, 2) := dk_21 5 (dk_at dksX1_finds_3 2 rfl rfl)
theorem dX1_finds_75 : decode cX1_finds 75 = .ok (.iadd, 1) := dk_96 (dk_at dksX1_finds_3 4 rfl rfl)
theorem dX1_finds_76 : decode cX1_finds 76 = .ok (.invokevirtual 395, 3) := dk_182 1 139 (dk_at dksX1_finds_3 5 rfl rfl)
theorem dX1_finds_79 : decode cX1_finds 79 = .ok (.aload_n 0, 1) := dk_42 (dk_at dksX1_finds_3 8 rfl rfl)
theorem dX1_finds_80 : decode cX1_finds 80 = .ok (.getfield 154, 3) := dk_180 0 154 (dk_at dksX1_finds_3 9 rfl rfl)
theorem dX1_finds_83 : decode cX1_finds 83 = .ok (.getfield 23, 3) := dk_180 0 23 (dk_at dksX1_finds_3 12 rfl rfl)
theorem dX1_finds_86 : decode cX1_finds 86 = .ok (.iload_n 2, 1) := dk_28 (dk_at dksX1_finds_3 15 rfl rfl)
theorem dX1_finds_87 : decode cX1_finds 87 = .ok (.i2l, 1) := dk_133 (dk_at dksX1_finds_3 16 rfl rfl)
theorem dX1_finds_88 : decode cX1_finds 88 = .ok (.lcmp, 1) := dk_148 (dk_at dksX1_finds_3 17 rfl rfl)
theorem dX1_finds_89 : decode cX1_finds 89 = .ok (.ifCond .ne 36, 3) := dk_154 0 36 (dk_at dksX1_finds_3 18 rfl rfl)
theorem dX1_finds_92 : decode cX1_finds 92 = .ok (.aload_n 0, 1) := dk_42 (dk_at dksX1_finds_3 21 rfl rfl)
theorem dX1_finds_93 : decode cX1_finds 93 = .ok (.getfield 154, 3) := dk_180 0 154 (dk_at dksX1_finds_4 0 rfl rfl)
theorem dX1_finds_96 : decode cX1_finds 96 = .ok (.getfield 29, 3) := dk_180 0 29 (dk_at dksX1_finds_4 3 rfl rfl)
theorem dX1_finds_99 : decode cX1_finds 99 = .ok (.iload_n 3, 1) := dk_29 (dk_at dksX1_finds_4 6 rfl rfl)
theorem dX1_finds_100 : decode cX1_finds 100 = .ok (.i2l, 1) := dk_133 (dk_at dksX1_finds_4 7 rfl rfl)
theorem dX1_finds_101 : decode cX1_finds 101 = .ok (.lcmp, 1) := dk_148 (dk_at dksX1_finds_4 8 rfl rfl)
theorem dX1_finds_102 : decode cX1_finds 102 = .ok (.ifCond .eq 6, 3) := dk_153 0 6 (dk_at dksX1_finds_4 9 rfl rfl)
theorem dX1_finds_105 : decode cX1_finds 105 = .ok (.goto 20, 3) := dk_167 0 20 (dk_at dksX1_finds_4 12 rfl rfl)
theorem dX1_finds_108 : decode cX1_finds 108 = .ok (.iload 7, 2) := dk_21 7 (dk_at dksX1_finds_4 15 rfl rfl)
theorem dX1_finds_110 : decode cX1_finds 110 = .ok (.ifCond .ne 8, 3) := dk_154 0 8 (dk_at dksX1_finds_4 17 rfl rfl)
theorem dX1_finds_113 : decode cX1_finds 113 = .ok (.iload 8, 2) := dk_21 8 (dk_at dksX1_finds_4 20 rfl rfl)
theorem dX1_finds_115 : decode cX1_finds 115 = .ok (.goto 5, 3) := dk_167 0 5 (dk_at dksX1_finds_5 0 rfl rfl)
theorem dX1_finds_118 : decode cX1_finds 118 = .ok (.iload 6, 2) := dk_21 6 (dk_at dksX1_finds_5 3 rfl rfl)
theorem dX1_finds_120 : decode cX1_finds 120 = .ok (.istore 6, 2) := dk_54 6 (dk_at dksX1_finds_5 5 rfl rfl)
theorem dX1_finds_122 : decode cX1_finds 122 = .ok (.iinc 7 1, 3) := dk_132 7 1 (dk_at dksX1_finds_5 7 rfl rfl)
theorem dX1_finds_125 : decode cX1_finds 125 = .ok (.iinc 8 1, 3) := dk_132 8 1 (dk_at dksX1_finds_5 10 rfl rfl)
theorem dX1_finds_128 : decode cX1_finds 128 = .ok (.goto (-78), 3) := dk_167 255 178 (dk_at dksX1_finds_5 13 rfl rfl)
theorem dX1_finds_131 : decode cX1_finds 131 = .ok (.iload 7, 2) := dk_21 7 (dk_at dksX1_finds_5 16 rfl rfl)
theorem dX1_finds_133 : decode cX1_finds 133 = .ok (.ifCond .ne 6, 3) := dk_154 0 6 (dk_at dksX1_finds_5 18 rfl rfl)
theorem dX1_finds_136 : decode cX1_finds 136 = .ok (.goto 25, 3) := dk_167 0 25 (dk_at dksX1_finds_5 21 rfl rfl)
theorem dX1_finds_139 : decode cX1_finds 139 = .ok (.aload_n 0, 1) := dk_42 (dk_at dksX1_finds_6 0 rfl rfl)
theorem dX1_finds_140 : decode cX1_finds 140 = .ok (.iconst 0, 1) := dk_3 (dk_at dksX1_finds_6 1 rfl rfl)
theorem dX1_finds_141 : decode cX1_finds 141 = .ok (.putfield 199, 3) := dk_181 0 199 (dk_at dksX1_finds_6 2 rfl rfl)
theorem dX1_finds_144 : decode cX1_finds 144 = .ok (.aload_n 0, 1) := dk_42 (dk_at dksX1_finds_6 5 rfl rfl)
theorem dX1_finds_145 : decode cX1_finds 145 = .ok (.iload 6, 2) := dk_21 6 (dk_at dksX1_finds_6 6 rfl rfl)
theorem dX1_finds_147 : decode cX1_finds 147 = .ok (.i2l, 1) := dk_133 (dk_at dksX1_finds_6 8 rfl rfl)
theorem dX1_finds_148 : decode cX1_finds 148 = .ok (.invokevirtual 202, 3) := dk_182 0 202 (dk_at dksX1_finds_6 9 rfl rfl)
theorem dX1_finds_151 : decode cX1_finds 151 = .ok (.aload_n 0, 1) := dk_42 (dk_at dksX1_finds_6 12 rfl rfl)
theorem dX1_finds_152 : decode cX1_finds 152 = .ok (.iload 7, 2) := dk_21 7 (dk_at dksX1_finds_6 13 rfl rfl)
theorem dX1_finds_154 : decode cX1_finds 154 = .ok (.i2l, 1) := dk_133 (dk_at dksX1_finds_6 15 rfl rfl)
theorem dX1_finds_155 : decode cX1_finds 155 = .ok (.invokevirtual 202, 3) := dk_182 0 202 (dk_at dksX1_finds_6 16 rfl rfl)
theorem dX1_finds_158 : decode cX1_finds 158 = .ok (.iload 5, 2) := dk_21 5 (dk_at dksX1_finds_6 19 rfl rfl)
theorem dX1_finds_160 : decode cX1_finds 160 = .ok (.ireturn, 1) := dk_172 (dk_at dksX1_finds_6 21 rfl rfl)
theorem dX1_finds_161 : decode cX1_finds 161 = .ok (.iinc 5 1, 3) := dk_132 5 1 (dk_at dksX1_finds_7 0 rfl rfl)
theorem dX1_finds_164 : decode cX1_finds 164 = .ok (.goto (-130), 3) := dk_167 255 126 (dk_at dksX1_finds_7 3 rfl rfl)
theorem dX1_finds_167 : decode cX1_finds 167 = .ok (.bipush (-2), 2) := dk_16 254 (dk_at dksX1_finds_7 6 rfl rfl)
theorem dX1_finds_169 : decode cX1_finds 169 = .ok (.ireturn, 1) := dk_172 (dk_at dksX1_finds_7 8 rfl rfl)
def dkwX1_drains_3 : List UInt8 := [29, 21, 4, 184, 1, 153, 172]
abbrev dktX1_drains_3 : List UInt8 := dkwX1_drains_3 ++ []
def dkwX1_drains_2 : List UInt8 := [162, 0, 7, 10, 167, 0, 4, 9, 182, 0, 202, 42, 29, 133, 182, 0, 202, 42, 21, 4, 133, 182, 0, 202]
abbrev dktX1_drains_2 : List UInt8 := dkwX1_drains_2 ++ dktX1_drains_3
def dkwX1_drains_1 : List UInt8 := [44, 3, 182, 1, 149, 62, 42, 44, 4, 182, 1, 149, 54, 4, 42, 3, 181, 0, 199, 42, 21, 4, 29]
abbrev dktX1_drains_1 : List UInt8 := dkwX1_drains_1 ++ dktX1_drains_2
def dkwX1_drains_0 : List UInt8 := [27, 184, 1, 45, 154, 0, 5, 2, 172, 42, 180, 0, 162, 27, 185, 1, 51, 2, 0, 192, 0, 157, 77, 42]
abbrev dktX1_drains_0 : List UInt8 := dkwX1_drains_0 ++ dktX1_drains_1
theorem dksX1_drains_0 : cX1_drains.data.toList.drop 0 = dktX1_drains_0 := by decide +kernel
theorem dksX1_drains_1 : cX1_drains.data.toList.drop 24 = dktX1_drains_1 := dk_seg dksX1_drains_0 24 rfl rfl
theorem dksX1_drains_2 : cX1_drains.data.toList.drop 47 = dktX1_drains_2 := dk_seg dksX1_drains_1 23 rfl rfl
theorem dksX1_drains_3 : cX1_drains.data.toList.drop 71 = dktX1_drains_3 := dk_seg dksX1_drains_2 24 rfl rfl
theorem dX1_drains_0 : decode cX1_drains 0 = .ok (.iload_n 1, 1) := dk_27 (dk_at dksX1_drains_0 0 rfl rfl)
theorem dX1_drains_1 : decode cX1_drains 1 = .ok (.invokestatic 301, 3) := dk_184 1 45 (dk_at dksX1_drains_0 1 rfl rfl)
theorem dX1_drains_4 : decode cX1_drains 4 = .ok (.ifCond .ne 5, 3) := dk_154 0 5 (dk_at dksX1_drains_0 4 rfl rfl)
theorem dX1_drains_7 : decode cX1_drains 7 = .ok (.iconst (-1), 1) := dk_2 (dk_at dksX1_drains_0 7 rfl rfl)
theorem dX1_drains_8 : decode cX1_drains 8 = .ok (.ireturn, 1) := dk_172 (dk_at dksX1_drains_0 8 rfl rfl)
theorem dX1_drains_9 : decode cX1_drains 9 = .ok (.aload_n 0, 1) := dk_42 (dk_at dksX1_drains_0 9 rfl rfl)
theorem dX1_drains_10 : decode cX1_drains 10 = .ok (.getfield 162, 3) := dk_180 0 162 (dk_at dksX1_drains_0 10 rfl rfl)
theorem dX1_drains_13 : decode cX1_drains 13 = .ok (.iload_n 1, 1) := dk_27 (dk_at dksX1_drains_0 13 rfl rfl)
theorem dX1_drains_14 : decode cX1_drains 14 = .ok (.invokeinterface 307 2, 5) := by decide +kernel
theorem dX1_drains_19 : decode cX1_drains 19 = .ok (.checkcast 157, 3) := dk_192 0 157 (dk_at dksX1_drains_0 19 rfl rfl)
theorem dX1_drains_22 : decode cX1_drains 22 = .ok (.astore_n 2, 1) := dk_77 (dk_at dksX1_drains_0 22 rfl rfl)
theorem dX1_drains_23 : decode cX1_drains 23 = .ok (.aload_n 0, 1) := dk_42 (dk_at dksX1_drains_0 23 rfl rfl)
theorem dX1_drains_24 : decode cX1_drains 24 = .ok (.aload_n 2, 1) := dk_44 (dk_at dksX1_drains_1 0 rfl rfl)
theorem dX1_drains_25 : decode cX1_drains 25 = .ok (.iconst 0, 1) := dk_3 (dk_at dksX1_drains_1 1 rfl rfl)
theorem dX1_drains_26 : decode cX1_drains 26 = .ok (.invokevirtual 405, 3) := dk_182 1 149 (dk_at dksX1_drains_1 2 rfl rfl)
theorem dX1_drains_29 : decode cX1_drains 29 = .ok (.istore_n 3, 1) := dk_62 (dk_at dksX1_drains_1 5 rfl rfl)
theorem dX1_drains_30 : decode cX1_drains 30 = .ok (.aload_n 0, 1) := dk_42 (dk_at dksX1_drains_1 6 rfl rfl)
theorem dX1_drains_31 : decode cX1_drains 31 = .ok (.aload_n 2, 1) := dk_44 (dk_at dksX1_drains_1 7 rfl rfl)
theorem dX1_drains_32 : decode cX1_drains 32 = .ok (.iconst 1, 1) := dk_4 (dk_at dksX1_drains_1 8 rfl rfl)
theorem dX1_drains_33 : decode cX1_drains 33 = .ok (.invokevirtual 405, 3) := dk_182 1 149 (dk_at dksX1_drains_1 9 rfl rfl)
theorem dX1_drains_36 : decode cX1_drains 36 = .ok (.istore 4, 2) := dk_54 4 (dk_at dksX1_drains_1 12 rfl rfl)
theorem dX1_drains_38 : decode cX1_drains 38 = .ok (.aload_n 0, 1) := dk_42 (dk_at dksX1_drains_1 14 rfl rfl)
theorem dX1_drains_39 : decode cX1_drains 39 = .ok (.iconst 0, 1) := dk_3 (dk_at dksX1_drains_1 15 rfl rfl)
theorem dX1_drains_40 : decode cX1_drains 40 = .ok (.putfield 199, 3) := dk_181 0 199 (dk_at dksX1_drains_1 16 rfl rfl)
theorem dX1_drains_43 : decode cX1_drains 43 = .ok (.aload_n 0, 1) := dk_42 (dk_at dksX1_drains_1 19 rfl rfl)
theorem dX1_drains_44 : decode cX1_drains 44 = .ok (.iload 4, 2) := dk_21 4 (dk_at dksX1_drains_1 20 rfl rfl)
theorem dX1_drains_46 : decode cX1_drains 46 = .ok (.iload_n 3, 1) := dk_29 (dk_at dksX1_drains_1 22 rfl rfl)
theorem dX1_drains_47 : decode cX1_drains 47 = .ok (.if_icmp .ge 7, 3) := dk_162 0 7 (dk_at dksX1_drains_2 0 rfl rfl)
theorem dX1_drains_50 : decode cX1_drains 50 = .ok (.lconst 1, 1) := dk_10 (dk_at dksX1_drains_2 3 rfl rfl)
theorem dX1_drains_51 : decode cX1_drains 51 = .ok (.goto 4, 3) := dk_167 0 4 (dk_at dksX1_drains_2 4 rfl rfl)
theorem dX1_drains_54 : decode cX1_drains 54 = .ok (.lconst 0, 1) := dk_9 (dk_at dksX1_drains_2 7 rfl rfl)
theorem dX1_drains_55 : decode cX1_drains 55 = .ok (.invokevirtual 202, 3) := dk_182 0 202 (dk_at dksX1_drains_2 8 rfl rfl)
theorem dX1_drains_58 : decode cX1_drains 58 = .ok (.aload_n 0, 1) := dk_42 (dk_at dksX1_drains_2 11 rfl rfl)
theorem dX1_drains_59 : decode cX1_drains 59 = .ok (.iload_n 3, 1) := dk_29 (dk_at dksX1_drains_2 12 rfl rfl)
theorem dX1_drains_60 : decode cX1_drains 60 = .ok (.i2l, 1) := dk_133 (dk_at dksX1_drains_2 13 rfl rfl)
theorem dX1_drains_61 : decode cX1_drains 61 = .ok (.invokevirtual 202, 3) := dk_182 0 202 (dk_at dksX1_drains_2 14 rfl rfl)
theorem dX1_drains_64 : decode cX1_drains 64 = .ok (.aload_n 0, 1) := dk_42 (dk_at dksX1_drains_2 17 rfl rfl)
theorem dX1_drains_65 : decode cX1_drains 65 = .ok (.iload 4, 2) := dk_21 4 (dk_at dksX1_drains_2 18 rfl rfl)
theorem dX1_drains_67 : decode cX1_drains 67 = .ok (.i2l, 1) := dk_133 (dk_at dksX1_drains_2 20 rfl rfl)
theorem dX1_drains_68 : decode cX1_drains 68 = .ok (.invokevirtual 202, 3) := dk_182 0 202 (dk_at dksX1_drains_2 21 rfl rfl)
theorem dX1_drains_71 : decode cX1_drains 71 = .ok (.iload_n 3, 1) := dk_29 (dk_at dksX1_drains_3 0 rfl rfl)
theorem dX1_drains_72 : decode cX1_drains 72 = .ok (.iload 4, 2) := dk_21 4 (dk_at dksX1_drains_3 1 rfl rfl)
theorem dX1_drains_74 : decode cX1_drains 74 = .ok (.invokestatic 409, 3) := dk_184 1 153 (dk_at dksX1_drains_3 3 rfl rfl)
theorem dX1_drains_77 : decode cX1_drains 77 = .ok (.ireturn, 1) := dk_172 (dk_at dksX1_drains_3 6 rfl rfl)
def dkwX1_drainedBy_2 : List UInt8 := [100, 54, 4, 132, 3, 255, 167, 255, 222, 21, 5, 172]
abbrev dktX1_drainedBy_2 : List UInt8 := dkwX1_drainedBy_2 ++ []
def dkwX1_drainedBy_1 : List UInt8 := [158, 0, 33, 29, 154, 0, 23, 21, 5, 21, 4, 96, 54, 5, 21, 4, 4, 96, 5, 108, 62, 21, 4, 29]
abbrev dktX1_drainedBy_1 : List UInt8 := dkwX1_drainedBy_1 ++ dktX1_drainedBy_2
def dkwX1_drainedBy_0 : List UInt8 := [43, 180, 0, 225, 28, 46, 62, 43, 182, 1, 54, 29, 100, 54, 4, 3, 54, 5, 29, 21, 4, 96]
abbrev dktX1_drainedBy_0 : List UInt8 := dkwX1_drainedBy_0 ++ dktX1_drainedBy_1
theorem dksX1_drainedBy_0 : cX1_drainedBy.data.toList.drop 0 = dktX1_drainedBy_0 := by decide +kernel
theorem dksX1_drainedBy_1 : cX1_drainedBy.data.toList.drop 22 = dktX1_drainedBy_1 := dk_seg dksX1_drainedBy_0 22 rfl rfl
theorem dksX1_drainedBy_2 : cX1_drainedBy.data.toList.drop 46 = dktX1_drainedBy_2 := dk_seg dksX1_drainedBy_1 24 rfl rfl
theorem dX1_drainedBy_0 : decode cX1_drainedBy 0 = .ok (.aload_n 1, 1) := dk_43 (dk_at dksX1_drainedBy_0 0 rfl rfl)
theorem dX1_drainedBy_1 : decode cX1_drainedBy 1 = .ok (.getfield 225, 3) := dk_180 0 225 (dk_at dksX1_drainedBy_0 1 rfl rfl)
theorem dX1_drainedBy_4 : decode cX1_drainedBy 4 = .ok (.iload_n 2, 1) := dk_28 (dk_at dksX1_drainedBy_0 4 rfl rfl)
theorem dX1_drainedBy_5 : decode cX1_drainedBy 5 = .ok (.iaload, 1) := dk_46 (dk_at dksX1_drainedBy_0 5 rfl rfl)
theorem dX1_drainedBy_6 : decode cX1_drainedBy 6 = .ok (.istore_n 3, 1) := dk_62 (dk_at dksX1_drainedBy_0 6 rfl rfl)
theorem dX1_drainedBy_7 : decode cX1_drainedBy 7 = .ok (.aload_n 1, 1) := dk_43 (dk_at dksX1_drainedBy_0 7 rfl rfl)
theorem dX1_drainedBy_8 : decode cX1_drainedBy 8 = .ok (.invokevirtual 310, 3) := dk_182 1 54 (dk_at dksX1_drainedBy_0 8 rfl rfl)
theorem dX1_drainedBy_11 : decode cX1_drainedBy 11 = .ok (.iload_n 3, 1) := dk_29 (dk_at dksX1_drainedBy_0 11 rfl rfl)
theorem dX1_drainedBy_12 : decode cX1_drainedBy 12 = .ok (.isub, 1) := dk_100 (dk_at dksX1_drainedBy_0 12 rfl rfl)
theorem dX1_drainedBy_13 : decode cX1_drainedBy 13 = .ok (.istore 4, 2) := dk_54 4 (dk_at dksX1_drainedBy_0 13 rfl rfl)
theorem dX1_drainedBy_15 : decode cX1_drainedBy 15 = .ok (.iconst 0, 1) := dk_3 (dk_at dksX1_drainedBy_0 15 rfl rfl)
theorem dX1_drainedBy_16 : decode cX1_drainedBy 16 = .ok (.istore 5, 2) := dk_54 5 (dk_at dksX1_drainedBy_0 16 rfl rfl)
theorem dX1_drainedBy_18 : decode cX1_drainedBy 18 = .ok (.iload_n 3, 1) := dk_29 (dk_at dksX1_drainedBy_0 18 rfl rfl)
theorem dX1_drainedBy_19 : decode cX1_drainedBy 19 = .ok (.iload 4, 2) := dk_21 4 (dk_at dksX1_drainedBy_0 19 rfl rfl)
theorem dX1_drainedBy_21 : decode cX1_drainedBy 21 = .ok (.iadd, 1) := dk_96 (dk_at dksX1_drainedBy_0 21 rfl rfl)
theorem dX1_drainedBy_22 : decode cX1_drainedBy 22 = .ok (.ifCond .le 33, 3) := dk_158 0 33 (dk_at dksX1_drainedBy_1 0 rfl rfl)
theorem dX1_drainedBy_25 : decode cX1_drainedBy 25 = .ok (.iload_n 3, 1) := dk_29 (dk_at dksX1_drainedBy_1 3 rfl rfl)
theorem dX1_drainedBy_26 : decode cX1_drainedBy 26 = .ok (.ifCond .ne 23, 3) := dk_154 0 23 (dk_at dksX1_drainedBy_1 4 rfl rfl)
theorem dX1_drainedBy_29 : decode cX1_drainedBy 29 = .ok (.iload 5, 2) := dk_21 5 (dk_at dksX1_drainedBy_1 7 rfl rfl)
theorem dX1_drainedBy_31 : decode cX1_drainedBy 31 = .ok (.iload 4, 2) := dk_21 4 (dk_at dksX1_drainedBy_1 9 rfl rfl)
theorem dX1_drainedBy_33 : decode cX1_drainedBy 33 = .ok (.iadd, 1) := dk_96 (dk_at dksX1_drainedBy_1 11 rfl rfl)
theorem dX1_drainedBy_34 : decode cX1_drainedBy 34 = .ok (.istore 5, 2) := dk_54 5 (dk_at dksX1_drainedBy_1 12 rfl rfl)
theorem dX1_drainedBy_36 : decode cX1_drainedBy 36 = .ok (.iload 4, 2) := dk_21 4 (dk_at dksX1_drainedBy_1 14 rfl rfl)
theorem dX1_drainedBy_38 : decode cX1_drainedBy 38 = .ok (.iconst 1, 1) := dk_4 (dk_at dksX1_drainedBy_1 16 rfl rfl)
theorem dX1_drainedBy_39 : decode cX1_drainedBy 39 = .ok (.iadd, 1) := dk_96 (dk_at dksX1_drainedBy_1 17 rfl rfl)
theorem dX1_drainedBy_40 : decode cX1_drainedBy 40 = .ok (.iconst 2, 1) := dk_5 (dk_at dksX1_drainedBy_1 18 rfl rfl)
theorem dX1_drainedBy_41 : decode cX1_drainedBy 41 = .ok (.idiv, 1) := dk_108 (dk_at dksX1_drainedBy_1 19 rfl rfl)
theorem dX1_drainedBy_42 : decode cX1_drainedBy 42 = .ok (.istore_n 3, 1) := dk_62 (dk_at dksX1_drainedBy_1 20 rfl rfl)
theorem dX1_drainedBy_43 : decode cX1_drainedBy 43 = .ok (.iload 4, 2) := dk_21 4 (dk_at dksX1_drainedBy_1 21 rfl rfl)
theorem dX1_drainedBy_45 : decode cX1_drainedBy 45 = .ok (.iload_n 3, 1) := dk_29 (dk_at dksX1_drainedBy_1 23 rfl rfl)
theorem dX1_drainedBy_46 : decode cX1_drainedBy 46 = .ok (.isub, 1) := dk_100 (dk_at dksX1_drainedBy_2 0 rfl rfl)
theorem dX1_drainedBy_47 : decode cX1_drainedBy 47 = .ok (.istore 4, 2) := dk_54 4 (dk_at dksX1_drainedBy_2 1 rfl rfl)
theorem dX1_drainedBy_49 : decode cX1_drainedBy 49 = .ok (.iinc 3 (-1), 3) := dk_132 3 255 (dk_at dksX1_drainedBy_2 3 rfl rfl)
theorem dX1_drainedBy_52 : decode cX1_drainedBy 52 = .ok (.goto (-34), 3) := dk_167 255 222 (dk_at dksX1_drainedBy_2 6 rfl rfl)
theorem dX1_drainedBy_55 : decode cX1_drainedBy 55 = .ok (.iload 5, 2) := dk_21 5 (dk_at dksX1_drainedBy_2 9 rfl rfl)
theorem dX1_drainedBy_57 : decode cX1_drainedBy 57 = .ok (.ireturn, 1) := dk_172 (dk_at dksX1_drainedBy_2 11 rfl rfl)
def dkwX1_unlike_11 : List UInt8 := [47, 182, 0, 202, 42, 42, 180, 0, 193, 21, 4, 47, 182, 0, 202, 42, 21, 5, 133, 182, 0, 202, 29, 172]
abbrev dktX1_unlike_11 : List UInt8 := dkwX1_unlike_11 ++ []
def dkwX1_unlike_10 : List UInt8 := [132, 6, 1, 167, 255, 136, 42, 3, 181, 0, 199, 28, 154, 0, 5, 3, 172, 42, 42, 180, 0, 190, 21, 4]
abbrev dktX1_unlike_10 : List UInt8 := dkwX1_unlike_10 ++ dktX1_unlike_11
def dkwX1_unlike_9 : List UInt8 := [167, 0, 4, 3, 96, 62, 21, 8, 21, 5, 163, 0, 6, 167, 0, 11, 21, 6, 54, 4, 21, 8, 54, 5]
abbrev dktX1_unlike_9 : List UInt8 := dkwX1_unlike_9 ++ dktX1_unlike_10
def dkwX1_unlike_8 : List UInt8 := [162, 0, 7, 4, 167, 0, 4, 3, 96, 54, 7, 132, 9, 1, 167, 255, 188, 29, 21, 7, 154, 0, 7, 4]
abbrev dktX1_unlike_8 : List UInt8 := dkwX1_unlike_8 ++ dktX1_unlike_9
def dkwX1_unlike_7 : List UInt8 := [42, 180, 0, 193, 21, 6, 47, 148, 153, 0, 6, 167, 0, 23, 132, 8, 1, 21, 7, 21, 9, 21, 6]
abbrev dktX1_unlike_7 : List UInt8 := dkwX1_unlike_7 ++ dktX1_unlike_8
def dkwX1_unlike_6 : List UInt8 := [180, 0, 190, 21, 9, 47, 42, 180, 0, 190, 21, 6, 47, 148, 154, 0, 44, 42, 180, 0, 193, 21, 9, 47]
abbrev dktX1_unlike_6 : List UInt8 := dkwX1_unlike_6 ++ dktX1_unlike_7
def dkwX1_unlike_5 : List UInt8 := [54, 6, 21, 6, 28, 162, 0, 120, 3, 54, 7, 3, 54, 8, 3, 54, 9, 21, 9, 28, 162, 0, 68, 42]
abbrev dktX1_unlike_5 : List UInt8 := dkwX1_unlike_5 ++ dktX1_unlike_6
def dkwX1_unlike_4 : List UInt8 := [42, 180, 0, 154, 180, 0, 29, 80, 132, 3, 1, 167, 255, 192, 3, 62, 2, 54, 4, 3, 54, 5, 3]
abbrev dktX1_unlike_4 : List UInt8 := dkwX1_unlike_4 ++ dktX1_unlike_5
def dkwX1_unlike_3 : List UInt8 := [180, 0, 147, 182, 1, 26, 42, 180, 0, 190, 29, 42, 180, 0, 154, 180, 0, 23, 80, 42, 180, 0, 193, 29]
abbrev dktX1_unlike_3 : List UInt8 := dkwX1_unlike_3 ++ dktX1_unlike_4
def dkwX1_unlike_2 : List UInt8 := [180, 0, 147, 42, 180, 0, 170, 29, 46, 182, 1, 23, 42, 42, 180, 0, 154, 42, 180, 0, 154, 42]
abbrev dktX1_unlike_2 : List UInt8 := dkwX1_unlike_2 ++ dktX1_unlike_3
def dkwX1_unlike_1 : List UInt8 := [180, 0, 170, 182, 1, 69, 61, 42, 42, 180, 0, 154, 182, 1, 35, 3, 62, 29, 28, 162, 0, 65, 42, 42]
abbrev dktX1_unlike_1 : List UInt8 := dkwX1_unlike_1 ++ dktX1_unlike_2
def dkwX1_unlike_0 : List UInt8 := [27, 184, 1, 45, 154, 0, 5, 2, 172, 42, 180, 0, 162, 27, 185, 1, 51, 2, 0, 192, 0, 157, 42]
abbrev dktX1_unlike_0 : List UInt8 := dkwX1_unlike_0 ++ dktX1_unlike_1
theorem dksX1_unlike_0 : cX1_unlike.data.toList.drop 0 = dktX1_unlike_0 := by decide +kernel
theorem dksX1_unlike_1 : cX1_unlike.data.toList.drop 23 = dktX1_unlike_1 := dk_seg dksX1_unlike_0 23 rfl rfl
theorem dksX1_unlike_2 : cX1_unlike.data.toList.drop 47 = dktX1_unlike_2 := dk_seg dksX1_unlike_1 24 rfl rfl
theorem dksX1_unlike_3 : cX1_unlike.data.toList.drop 69 = dktX1_unlike_3 := dk_seg dksX1_unlike_2 22 rfl rfl
theorem dksX1_unlike_4 : cX1_unlike.data.toList.drop 93 = dktX1_unlike_4 := dk_seg dksX1_unlike_3 24 rfl rfl
theorem dksX1_unlike_5 : cX1_unlike.data.toList.drop 116 = dktX1_unlike_5 := dk_seg dksX1_unlike_4 23 rfl rfl
theorem dksX1_unlike_6 : cX1_unlike.data.toList.drop 140 = dktX1_unlike_6 := dk_seg dksX1_unlike_5 24 rfl rfl
theorem dksX1_unlike_7 : cX1_unlike.data.toList.drop 164 = dktX1_unlike_7 := dk_seg dksX1_unlike_6 24 rfl rfl
theorem dksX1_unlike_8 : cX1_unlike.data.toList.drop 187 = dktX1_unlike_8 := dk_seg dksX1_unlike_7 23 rfl rfl
theorem dksX1_unlike_9 : cX1_unlike.data.toList.drop 211 = dktX1_unlike_9 := dk_seg dksX1_unlike_8 24 rfl rfl
theorem dksX1_unlike_10 : cX1_unlike.data.toList.drop 235 = dktX1_unlike_10 := dk_seg dksX1_unlike_9 24 rfl rfl
theorem dksX1_unlike_11 : cX1_unlike.data.toList.drop 259 = dktX1_unlike_11 := dk_seg dksX1_unlike_10 24 rfl rfl
theorem dX1_unlike_0 : decode cX1_unlike 0 = .ok (.iload_n 1, 1) := dk_27 (dk_at dksX1_unlike_0 0 rfl rfl)
theorem dX1_unlike_1 : decode cX1_unlike 1 = .ok (.invokestatic 301, 3) := dk_184 1 45 (dk_at dksX1_unlike_0 1 rfl rfl)
theorem dX1_unlike_4 : decode cX1_unlike 4 = .ok (.ifCond .ne 5, 3) := dk_154 0 5 (dk_at dksX1_unlike_0 4 rfl rfl)
theorem dX1_unlike_7 : decode cX1_unlike 7 = .ok (.iconst (-1), 1) := dk_2 (dk_at dksX1_unlike_0 7 rfl rfl)
theorem dX1_unlike_8 : decode cX1_unlike 8 = .ok (.ireturn, 1) := dk_172 (dk_at dksX1_unlike_0 8 rfl rfl)
theorem dX1_unlike_9 : decode cX1_unlike 9 = .ok (.aload_n 0, 1) := dk_42 (dk_at dksX1_unlike_0 9 rfl rfl)
theorem dX1_unlike_10 : decode cX1_unlike 10 = .ok (.getfield 162, 3) := dk_180 0 162 (dk_at dksX1_unlike_0 10 rfl rfl)
theorem dX1_unlike_13 : decode cX1_unlike 13 = .ok (.iload_n 1, 1) := dk_27 (dk_at dksX1_unlike_0 13 rfl rfl)
theorem dX1_unlike_14 : decode cX1_unlike 14 = .ok (.invokeinterface 307 2, 5) := by decide +kernel
theorem dX1_unlike_19 : decode cX1_unlike 19 = .ok (.checkcast 157, 3) := dk_192 0 157 (dk_at dksX1_unlike_0 19 rfl rfl)
theorem dX1_unlike_22 : decode cX1_unlike 22 = .ok (.aload_n 0, 1) := dk_42 (dk_at dksX1_unlike_0 22 rfl rfl)
theorem dX1_unlike_23 : decode cX1_unlike 23 = .ok (.getfield 170, 3) := dk_180 0 170 (dk_at dksX1_unlike_1 0 rfl rfl)
theorem dX1_unlike_26 : decode cX1_unlike 26 = .ok (.invokevirtual 325, 3) := dk_182 1 69 (dk_at dksX1_unlike_1 3 rfl rfl)
theorem dX1_unlike_29 : decode cX1_unlike 29 = .ok (.istore_n 2, 1) := dk_61 (dk_at dksX1_unlike_1 6 rfl rfl)
theorem dX1_unlike_30 : decode cX1_unlike 30 = .ok (.aload_n 0, 1) := dk_42 (dk_at dksX1_unlike_1 7 rfl rfl)
theorem dX1_unlike_31 : decode cX1_unlike 31 = .ok (.aload_n 0, 1) := dk_42 (dk_at dksX1_unlike_1 8 rfl rfl)
theorem dX1_unlike_32 : decode cX1_unlike 32 = .ok (.getfield 154, 3) := dk_180 0 154 (dk_at dksX1_unlike_1 9 rfl rfl)
theorem dX1_unlike_35 : decode cX1_unlike 35 = .ok (.invokevirtual 291, 3) := dk_182 1 35 (dk_at dksX1_unlike_1 12 rfl rfl)
theorem dX1_unlike_38 : decode cX1_unlike 38 = .ok (.iconst 0, 1) := dk_3 (dk_at dksX1_unlike_1 15 rfl rfl)
theorem dX1_unlike_39 : decode cX1_unlike 39 = .ok (.istore_n 3, 1) := dk_62 (dk_at dksX1_unlike_1 16 rfl rfl)
theorem dX1_unlike_40 : decode cX1_unlike 40 = .ok (.iload_n 3, 1) := dk_29 (dk_at dksX1_unlike_1 17 rfl rfl)
theorem dX1_unlike_41 : decode cX1_unlike 41 = .ok (.iload_n 2, 1) := dk_28 (dk_at dksX1_unlike_1 18 rfl rfl)
theorem dX1_unlike_42 : decode cX1_unlike 42 = .ok (.if_icmp .ge 65, 3) := dk_162 0 65 (dk_at dksX1_unlike_1 19 rfl rfl)
theorem dX1_unlike_45 : decode cX1_unlike 45 = .ok (.aload_n 0, 1) := dk_42 (dk_at dksX1_unlike_1 22 rfl rfl)
theorem dX1_unlike_46 : decode cX1_unlike 46 = .ok (.aload_n 0, 1) := dk_42 (dk_at dksX1_unlike_1 23 rfl rfl)
theorem dX1_unlike_47 : decode cX1_unlike 47 = .ok (.getfield 147, 3) := dk_180 0 147 (dk_at dksX1_unlike_2 0 rfl rfl)
theorem dX1_unlike_50 : decode cX1_unlike 50 = .ok (.aload_n 0, 1) := dk_42 (dk_at dksX1_unlike_2 3 rfl rfl)
theorem dX1_unlike_51 : decode cX1_unlike 51 = .ok (.getfield 170, 3) := dk_180 0 170 (dk_at dksX1_unlike_2 4 rfl rfl)
theorem dX1_unlike_54 : decode cX1_unlike 54 = .ok (.iload_n 3, 1) := dk_29 (dk_at dksX1_unlike_2 7 rfl rfl)
theorem dX1_unlike_55 : decode cX1_unlike 55 = .ok (.iaload, 1) := dk_46 (dk_at dksX1_unlike_2 8 rfl rfl)
theorem dX1_unlike_56 : decode cX1_unlike 56 = .ok (.invokevirtual 279, 3) := dk_182 1 23 (dk_at dksX1_unlike_2 9 rfl rfl)
theorem dX1_unlike_59 : decode cX1_unlike 59 = .ok (.aload_n 0, 1) := dk_42 (dk_at dksX1_unlike_2 12 rfl rfl)
theorem dX1_unlike_60 : decode cX1_unlike 60 = .ok (.aload_n 0, 1) := dk_42 (dk_at dksX1_unlike_2 13 rfl rfl)
theorem dX1_unlike_61 : decode cX1_unlike 61 = .ok (.getfield 154, 3) := dk_180 0 154 (dk_at dksX1_unlike_2 14 rfl rfl)
theorem dX1_unlike_64 : decode cX1_unlike 64 = .ok (.aload_n 0, 1) := dk_42 (dk_at dksX1_unlike_2 17 rfl rfl)
theorem dX1_unlike_65 : decode cX1_unlike 65 = .ok (.getfield 154, 3) := dk_180 0 154 (dk_at dksX1_unlike_2 18 rfl rfl)
theorem dX1_unlike_68 : decode cX1_unlike 68 = .ok (.aload_n 0, 1) := dk_42 (dk_at dksX1_unlike_2 21 rfl rfl)
theorem dX1_unlike_69 : decode cX1_unlike 69 = .ok (.getfield 147, 3) := dk_180 0 147 (dk_at dksX1_unlike_3 0 rfl rfl)
theorem dX1_unlike_72 : decode cX1_unlike 72 = .ok (.invokevirtual 282, 3) := dk_182 1 26 (dk_at dksX1_unlike_3 3 rfl rfl)
theorem dX1_unlike_75 : decode cX1_unlike 75 = .ok (.aload_n 0, 1) := dk_42 (dk_at dksX1_unlike_3 6 rfl rfl)
theorem dX1_unlike_76 : decode cX1_unlike 76 = .ok (.getfield 190, 3) := dk_180 0 190 (dk_at dksX1_unlike_3 7 rfl rfl)
theorem dX1_unlike_79 : decode cX1_unlike 79 = .ok (.iload_n 3, 1) := dk_29 (dk_at dksX1_unlike_3 10 rfl rfl)
theorem dX1_unlike_80 : decode cX1_unlike 80 = .ok (.aload_n 0, 1) := dk_42 (dk_at dksX1_unlike_3 11 rfl rfl)
theorem dX1_unlike_81 : decode cX1_unlike 81 = .ok (.getfield 154, 3) := dk_180 0 154 (dk_at dksX1_unlike_3 12 rfl rfl)
theorem dX1_unlike_84 : decode cX1_unlike 84 = .ok (.getfield 23, 3) := dk_180 0 23 (dk_at dksX1_unlike_3 15 rfl rfl)
theorem dX1_unlike_87 : decode cX1_unlike 87 = .ok (.lastore, 1) := dk_80 (dk_at dksX1_unlike_3 18 rfl rfl)
theorem dX1_unlike_88 : decode cX1_unlike 88 = .ok (.aload_n 0, 1) := dk_42 (dk_at dksX1_unlike_3 19 rfl rfl)
theorem dX1_unlike_89 : decode cX1_unlike 89 = .ok (.getfield 193, 3) := dk_180 0 193 (dk_at dksX1_unlike_3 20 rfl rfl)
theorem dX1_unlike_92 : decode cX1_unlike 92 = .ok (.iload_n 3, 1) := dk_29 (dk_at dksX1_unlike_3 23 rfl rfl)
theorem dX1_unlike_93 : decode cX1_unlike 93 = .ok (.aload_n 0, 1) := dk_42 (dk_at dksX1_unlike_4 0 rfl rfl)
theorem dX1_unlike_94 : decode cX1_unlike 94 = .ok (.getfield 154, 3) := dk_180 0 154 (dk_at dksX1_unlike_4 1 rfl rfl)
theorem dX1_unlike_97 : decode cX1_unlike 97 = .ok (.getfield 29, 3) := dk_180 0 29 (dk_at dksX1_unlike_4 4 rfl rfl)
theorem dX1_unlike_100 : decode cX1_unlike 100 = .ok (.lastore, 1) := dk_80 (dk_at dksX1_unlike_4 7 rfl rfl)
theorem dX1_unlike_101 : decode cX1_unlike 101 = .ok (.iinc 3 1, 3) := dk_132 3 1 (dk_at dksX1_unlike_4 8 rfl rfl)
theorem dX1_unlike_104 : decode cX1_unlike 104 = .ok (.goto (-64), 3) := dk_167 255 192 (dk_at dksX1_unlike_4 11 rfl rfl)
theorem dX1_unlike_107 : decode cX1_unlike 107 = .ok (.iconst 0, 1) := dk_3 (dk_at dksX1_unlike_4 14 rfl rfl)
theorem dX1_unlike_108 : decode cX1_unlike 108 = .ok (.istore_n 3, 1) := dk_62 (dk_at dksX1_unlike_4 15 rfl rfl)
theorem dX1_unlike_109 : decode cX1_unlike 109 = .ok (.iconst (-1), 1) := dk_2 (dk_at dksX1_unlike_4 16 rfl rfl)
theorem dX1_unlike_110 : decode cX1_unlike 110 = .ok (.istore 4, 2) := dk_54 4 (dk_at dksX1_unlike_4 17 rfl rfl)
theorem dX1_unlike_112 : decode cX1_unlike 112 = .ok (.iconst 0, 1) := dk_3 (dk_at dksX1_unlike_4 19 rfl rfl)
theorem dX1_unlike_113 : decode cX1_unlike 113 = .ok (.istore 5, 2) := dk_54 5 (dk_at dksX1_unlike_4 20 rfl rfl)
theorem dX1_unlike_115 : decode cX1_unlike 115 = .ok (.iconst 0, 1) := dk_3 (dk_at dksX1_unlike_4 22 rfl rfl)
theorem dX1_unlike_116 : decode cX1_unlike 116 = .ok (.istore 6, 2) := dk_54 6 (dk_at dksX1_unlike_5 0 rfl rfl)
theorem dX1_unlike_118 : decode cX1_unlike 118 = .ok (.iload 6, 2) := dk_21 6 (dk_at dksX1_unlike_5 2 rfl rfl)
theorem dX1_unlike_120 : decode cX1_unlike 120 = .ok (.iload_n 2, 1) := dk_28 (dk_at dksX1_unlike_5 4 rfl rfl)
theorem dX1_unlike_121 : decode cX1_unlike 121 = .ok (.if_icmp .ge 120, 3) := dk_162 0 120 (dk_at dksX1_unlike_5 5 rfl rfl)
theorem dX1_unlike_124 : decode cX1_unlike 124 = .ok (.iconst 0, 1) := dk_3 (dk_at dksX1_unlike_5 8 rfl rfl)
theorem dX1_unlike_125 : decode cX1_unlike 125 = .ok (.istore 7, 2) := dk_54 7 (dk_at dksX1_unlike_5 9 rfl rfl)
theorem dX1_unlike_127 : decode cX1_unlike 127 = .ok (.iconst 0, 1) := dk_3 (dk_at dksX1_unlike_5 11 rfl rfl)
theorem dX1_unlike_128 : decode cX1_unlike 128 = .ok (.istore 8, 2) := dk_54 8 (dk_at dksX1_unlike_5 12 rfl rfl)
theorem dX1_unlike_130 : decode cX1_unlike 130 = .ok (.iconst 0, 1) := dk_3 (dk_at dksX1_unlike_5 14 rfl rfl)
theorem dX1_unlike_131 : decode cX1_unlike 131 = .ok (.istore 9, 2) := dk_54 9 (dk_at dksX1_unlike_5 15 rfl rfl)
theorem dX1_unlike_133 : decode cX1_unlike 133 = .ok (.iload 9, 2) := dk_21 9 (dk_at dksX1_unlike_5 17 rfl rfl)
theorem dX1_unlike_135 : decode cX1_unlike 135 = .ok (.iload_n 2, 1) := dk_28 (dk_at dksX1_unlike_5 19 rfl rfl)
theorem dX1_unlike_136 : decode cX1_unlike 136 = .ok (.if_icmp .ge 68, 3) := dk_162 0 68 (dk_at dksX1_unlike_5 20 rfl rfl)
theorem dX1_unlike_139 : decode cX1_unlike 139 = .ok (.aload_n 0, 1) := dk_42 (dk_at dksX1_unlike_5 23 rfl rfl)
theorem dX1_unlike_140 : decode cX1_unlike 140 = .ok (.getfield 190, 3) := dk_180 0 190 (dk_at dksX1_unlike_6 0 rfl rfl)
theorem dX1_unlike_143 : decode cX1_unlike 143 = .ok (.iload 9, 2) := dk_21 9 (dk_at dksX1_unlike_6 3 rfl rfl)
theorem dX1_unlike_145 : decode cX1_unlike 145 = .ok (.laload, 1) := dk_47 (dk_at dksX1_unlike_6 5 rfl rfl)
theorem dX1_unlike_146 : decode cX1_unlike 146 = .ok (.aload_n 0, 1) := dk_42 (dk_at dksX1_unlike_6 6 rfl rfl)
theorem dX1_unlike_147 : decode cX1_unlike 147 = .ok (.getfield 190, 3) := dk_180 0 190 (dk_at dksX1_unlike_6 7 rfl rfl)
theorem dX1_unlike_150 : decode cX1_unlike 150 = .ok (.iload 6, 2) := dk_21 6 (dk_at dksX1_unlike_6 10 rfl rfl)
theorem dX1_unlike_152 : decode cX1_unlike 152 = .ok (.laload, 1) := dk_47 (dk_at dksX1_unlike_6 12 rfl rfl)
theorem dX1_unlike_153 : decode cX1_unlike 153 = .ok (.lcmp, 1) := dk_148 (dk_at dksX1_unlike_6 13 rfl rfl)
theorem dX1_unlike_154 : decode cX1_unlike 154 = .ok (.ifCond .ne 44, 3) := dk_154 0 44 (dk_at dksX1_unlike_6 14 rfl rfl)
theorem dX1_unlike_157 : decode cX1_unlike 157 = .ok (.aload_n 0, 1) := dk_42 (dk_at dksX1_unlike_6 17 rfl rfl)
theorem dX1_unlike_158 : decode cX1_unlike 158 = .ok (.getfield 193, 3) := dk_180 0 193 (dk_at dksX1_unlike_6 18 rfl rfl)
theorem dX1_unlike_161 : decode cX1_unlike 161 = .ok (.iload 9, 2) := dk_21 9 (dk_at dksX1_unlike_6 21 rfl rfl)
theorem dX1_unlike_163 : decode cX1_unlike 163 = .ok (.laload, 1) := dk_47 (dk_at dksX1_unlike_6 23 rfl rfl)
theorem dX1_unlike_164 : decode cX1_unlike 164 = .ok (.aload_n 0, 1) := dk_42 (dk_at dksX1_unlike_7 0 rfl rfl)
theorem dX1_unlike_165 : decode cX1_unlike 165 = .ok (.getfield 193, 3) := dk_180 0 193 (dk_at dksX1_unlike_7 1 rfl rfl)
theorem dX1_unlike_168 : decode cX1_unlike 168 = .ok (.iload 6, 2) := dk_21 6 (dk_at dksX1_unlike_7 4 rfl rfl)
theorem dX1_unlike_170 : decode cX1_unlike 170 = .ok (.laload, 1) := dk_47 (dk_at dksX1_unlike_7 6 rfl rfl)
theorem dX1_unlike_171 : decode cX1_unlike 171 = .ok (.lcmp, 1) := dk_148 (dk_at dksX1_unlike_7 7 rfl rfl)
theorem dX1_unlike_172 : decode cX1_unlike 172 = .ok (.ifCond .eq 6, 3) := dk_153 0 6 (dk_at dksX1_unlike_7 8 rfl rfl)
theorem dX1_unlike_175 : decode cX1_unlike 175 = .ok (.goto 23, 3) := dk_167 0 23 (dk_at dksX1_unlike_7 11 rfl rfl)
theorem dX1_unlike_178 : decode cX1_unlike 178 = .ok (.iinc 8 1, 3) := dk_132 8 1 (dk_at dksX1_unlike_7 14 rfl rfl)
theorem dX1_unlike_181 : decode cX1_unlike 181 = .ok (.iload 7, 2) := dk_21 7 (dk_at dksX1_unlike_7 17 rfl rfl)
theorem dX1_unlike_183 : decode cX1_unlike 183 = .ok (.iload 9, 2) := dk_21 9 (dk_at dksX1_unlike_7 19 rfl rfl)
theorem dX1_unlike_185 : decode cX1_unlike 185 = .ok (.iload 6, 2) := dk_21 6 (dk_at dksX1_unlike_7 21 rfl rfl)
theorem dX1_unlike_187 : decode cX1_unlike 187 = .ok (.if_icmp .ge 7, 3) := dk_162 0 7 (dk_at dksX1_unlike_8 0 rfl rfl)
theorem dX1_unlike_190 : decode cX1_unlike 190 = .ok (.iconst 1, 1) := dk_4 (dk_at dksX1_unlike_8 3 rfl rfl)
theorem dX1_unlike_191 : decode cX1_unlike 191 = .ok (.goto 4, 3) := dk_167 0 4 (dk_at dksX1_unlike_8 4 rfl rfl)
theorem dX1_unlike_194 : decode cX1_unlike 194 = .ok (.iconst 0, 1) := dk_3 (dk_at dksX1_unlike_8 7 rfl rfl)
theorem dX1_unlike_195 : decode cX1_unlike 195 = .ok (.iadd, 1) := dk_96 (dk_at dksX1_unlike_8 8 rfl rfl)
theorem dX1_unlike_196 : decode cX1_unlike 196 = .ok (.istore 7, 2) := dk_54 7 (dk_at dksX1_unlike_8 9 rfl rfl)
theorem dX1_unlike_198 : decode cX1_unlike 198 = .ok (.iinc 9 1, 3) := dk_132 9 1 (dk_at dksX1_unlike_8 11 rfl rfl)
theorem dX1_unlike_201 : decode cX1_unlike 201 = .ok (.goto (-68), 3) := dk_167 255 188 (dk_at dksX1_unlike_8 14 rfl rfl)
theorem dX1_unlike_204 : decode cX1_unlike 204 = .ok (.iload_n 3, 1) := dk_29 (dk_at dksX1_unlike_8 17 rfl rfl)
theorem dX1_unlike_205 : decode cX1_unlike 205 = .ok (.iload 7, 2) := dk_21 7 (dk_at dksX1_unlike_8 18 rfl rfl)
theorem dX1_unlike_207 : decode cX1_unlike 207 = .ok (.ifCond .ne 7, 3) := dk_154 0 7 (dk_at dksX1_unlike_8 20 rfl rfl)
theorem dX1_unlike_210 : decode cX1_unlike 210 = .ok (.iconst 1, 1) := dk_4 (dk_at dksX1_unlike_8 23 rfl rfl)
theorem dX1_unlike_211 : decode cX1_unlike 211 = .ok (.goto 4, 3) := dk_167 0 4 (dk_at dksX1_unlike_9 0 rfl rfl)
theorem dX1_unlike_214 : decode cX1_unlike 214 = .ok (.iconst 0, 1) := dk_3 (dk_at dksX1_unlike_9 3 rfl rfl)
theorem dX1_unlike_215 : decode cX1_unlike 215 = .ok (.iadd, 1) := dk_96 (dk_at dksX1_unlike_9 4 rfl rfl)
theorem dX1_unlike_216 : decode cX1_unlike 216 = .ok (.istore_n 3, 1) := dk_62 (dk_at dksX1_unlike_9 5 rfl rfl)
theorem dX1_unlike_217 : decode cX1_unlike 217 = .ok (.iload 8, 2) := dk_21 8 (dk_at dksX1_unlike_9 6 rfl rfl)
theorem dX1_unlike_219 : decode cX1_unlike 219 = .ok (.iload 5, 2) := dk_21 5 (dk_at dksX1_unlike_9 8 rfl rfl)
theorem dX1_unlike_221 : decode cX1_unlike 221 = .ok (.if_icmp .gt 6, 3) := dk_163 0 6 (dk_at dksX1_unlike_9 10 rfl rfl)
theorem dX1_unlike_224 : decode cX1_unlike 224 = .ok (.goto 11, 3) := dk_167 0 11 (dk_at dksX1_unlike_9 13 rfl rfl)
theorem dX1_unlike_227 : decode cX1_unlike 227 = .ok (.iload 6, 2) := dk_21 6 (dk_at dksX1_unlike_9 16 rfl rfl)
theorem dX1_unlike_229 : decode cX1_unlike 229 = .ok (.istore 4, 2) := dk_54 4 (dk_at dksX1_unlike_9 18 rfl rfl)
theorem dX1_unlike_231 : decode cX1_unlike 231 = .ok (.iload 8, 2) := dk_21 8 (dk_at dksX1_unlike_9 20 rfl rfl)
theorem dX1_unlike_233 : decode cX1_unlike 233 = .ok (.istore 5, 2) := dk_54 5 (dk_at dksX1_unlike_9 22 rfl rfl)
theorem dX1_unlike_235 : decode cX1_unlike 235 = .ok (.iinc 6 1, 3) := dk_132 6 1 (dk_at dksX1_unlike_10 0 rfl rfl)
theorem dX1_unlike_238 : decode cX1_unlike 238 = .ok (.goto (-120), 3) := dk_167 255 136 (dk_at dksX1_unlike_10 3 rfl rfl)
theorem dX1_unlike_241 : decode cX1_unlike 241 = .ok (.aload_n 0, 1) := dk_42 (dk_at dksX1_unlike_10 6 rfl rfl)
theorem dX1_unlike_242 : decode cX1_unlike 242 = .ok (.iconst 0, 1) := dk_3 (dk_at dksX1_unlike_10 7 rfl rfl)
theorem dX1_unlike_243 : decode cX1_unlike 243 = .ok (.putfield 199, 3) := dk_181 0 199 (dk_at dksX1_unlike_10 8 rfl rfl)
theorem dX1_unlike_246 : decode cX1_unlike 246 = .ok (.iload_n 2, 1) := dk_28 (dk_at dksX1_unlike_10 11 rfl rfl)
theorem dX1_unlike_247 : decode cX1_unlike 247 = .ok (.ifCond .ne 5, 3) := dk_154 0 5 (dk_at dksX1_unlike_10 12 rfl rfl)
theorem dX1_unlike_250 : decode cX1_unlike 250 = .ok (.iconst 0, 1) := dk_3 (dk_at dksX1_unlike_10 15 rfl rfl)
theorem dX1_unlike_251 : decode cX1_unlike 251 = .ok (.ireturn, 1) := dk_172 (dk_at dksX1_unlike_10 16 rfl rfl)
theorem dX1_unlike_252 : decode cX1_unlike 252 = .ok (.aload_n 0, 1) := dk_42 (dk_at dksX1_unlike_10 17 rfl rfl)
theorem dX1_unlike_253 : decode cX1_unlike 253 = .ok (.aload_n 0, 1) := dk_42 (dk_at dksX1_unlike_10 18 rfl rfl)
theorem dX1_unlike_254 : decode cX1_unlike 254 = .ok (.getfield 190, 3) := dk_180 0 190 (dk_at dksX1_unlike_10 19 rfl rfl)
theorem dX1_unlike_257 : decode cX1_unlike 257 = .ok (.iload 4, 2) := dk_21 4 (dk_at dksX1_unlike_10 22 rfl rfl)
theorem dX1_unlike_259 : decode cX1_unlike 259 = .ok (.laload, 1) := dk_47 (dk_at dksX1_unlike_11 0 rfl rfl)
theorem dX1_unlike_260 : decode cX1_unlike 260 = .ok (.invokevirtual 202, 3) := dk_182 0 202 (dk_at dksX1_unlike_11 1 rfl rfl)
theorem dX1_unlike_263 : decode cX1_unlike 263 = .ok (.aload_n 0, 1) := dk_42 (dk_at dksX1_unlike_11 4 rfl rfl)
theorem dX1_unlike_264 : decode cX1_unlike 264 = .ok (.aload_n 0, 1) := dk_42 (dk_at dksX1_unlike_11 5 rfl rfl)
theorem dX1_unlike_265 : decode cX1_unlike 265 = .ok (.getfield 193, 3) := dk_180 0 193 (dk_at dksX1_unlike_11 6 rfl rfl)
theorem dX1_unlike_268 : decode cX1_unlike 268 = .ok (.iload 4, 2) := dk_21 4 (dk_at dksX1_unlike_11 9 rfl rfl)
theorem dX1_unlike_270 : decode cX1_unlike 270 = .ok (.laload, 1) := dk_47 (dk_at dksX1_unlike_11 11 rfl rfl)
theorem dX1_unlike_271 : decode cX1_unlike 271 = .ok (.invokevirtual 202, 3) := dk_182 0 202 (dk_at dksX1_unlike_11 12 rfl rfl)
theorem dX1_unlike_274 : decode cX1_unlike 274 = .ok (.aload_n 0, 1) := dk_42 (dk_at dksX1_unlike_11 15 rfl rfl)
theorem dX1_unlike_275 : decode cX1_unlike 275 = .ok (.iload 5, 2) := dk_21 5 (dk_at dksX1_unlike_11 16 rfl rfl)
theorem dX1_unlike_277 : decode cX1_unlike 277 = .ok (.i2l, 1) := dk_133 (dk_at dksX1_unlike_11 18 rfl rfl)
theorem dX1_unlike_278 : decode cX1_unlike 278 = .ok (.invokevirtual 202, 3) := dk_182 0 202 (dk_at dksX1_unlike_11 19 rfl rfl)
theorem dX1_unlike_281 : decode cX1_unlike 281 = .ok (.iload_n 3, 1) := dk_29 (dk_at dksX1_unlike_11 22 rfl rfl)
theorem dX1_unlike_282 : decode cX1_unlike 282 = .ok (.ireturn, 1) := dk_172 (dk_at dksX1_unlike_11 23 rfl rfl)
def dkwX1_same_9 : List UInt8 := [167, 0, 4, 3, 172]
abbrev dktX1_same_9 : List UInt8 := dkwX1_same_9 ++ []
def dkwX1_same_8 : List UInt8 := [153, 0, 7, 10, 167, 0, 4, 9, 182, 0, 202, 42, 21, 8, 133, 182, 0, 202, 21, 6, 153, 0, 7, 4]
abbrev dktX1_same_8 : List UInt8 := dkwX1_same_8 ++ dktX1_same_9
def dkwX1_same_7 : List UInt8 := [160, 0, 8, 21, 5, 167, 0, 8, 42, 28, 182, 1, 167, 54, 8, 42, 3, 181, 0, 199, 42, 21, 7]
abbrev dktX1_same_7 : List UInt8 := dkwX1_same_7 ++ dktX1_same_8
def dkwX1_same_6 : List UInt8 := [180, 0, 154, 42, 180, 0, 151, 182, 1, 41, 54, 7, 42, 182, 1, 164, 42, 27, 182, 1, 167, 87, 27, 28]
abbrev dktX1_same_6 : List UInt8 := dkwX1_same_6 ++ dktX1_same_7
def dkwX1_same_5 : List UInt8 := [132, 7, 1, 167, 255, 217, 45, 42, 180, 0, 154, 182, 1, 89, 25, 4, 42, 180, 0, 151, 182, 1, 89, 42]
abbrev dktX1_same_5 : List UInt8 := dkwX1_same_5 ++ dktX1_same_6
def dkwX1_same_4 : List UInt8 := [180, 0, 170, 21, 7, 46, 42, 180, 0, 173, 21, 7, 46, 160, 0, 7, 4, 167, 0, 4, 3, 54, 6]
abbrev dktX1_same_4 : List UInt8 := dkwX1_same_4 ++ dktX1_same_5
def dkwX1_same_3 : List UInt8 := [4, 167, 0, 4, 3, 54, 6, 3, 54, 7, 21, 7, 21, 5, 162, 0, 38, 21, 6, 153, 0, 33, 42]
abbrev dktX1_same_3 : List UInt8 := dkwX1_same_3 ++ dktX1_same_4
def dkwX1_same_2 : List UInt8 := [45, 42, 180, 0, 170, 182, 1, 69, 54, 5, 25, 4, 42, 180, 0, 173, 182, 1, 69, 21, 5, 160, 0, 7]
abbrev dktX1_same_2 : List UInt8 := dkwX1_same_2 ++ dktX1_same_3
def dkwX1_same_1 : List UInt8 := [185, 1, 51, 2, 0, 192, 0, 157, 78, 42, 180, 0, 162, 28, 185, 1, 51, 2, 0, 192, 0, 157, 58, 4]
abbrev dktX1_same_1 : List UInt8 := dkwX1_same_1 ++ dktX1_same_2
def dkwX1_same_0 : List UInt8 := [27, 184, 1, 45, 153, 0, 10, 28, 184, 1, 45, 154, 0, 5, 2, 172, 42, 180, 0, 162, 27]
abbrev dktX1_same_0 : List UInt8 := dkwX1_same_0 ++ dktX1_same_1
theorem dksX1_same_0 : cX1_same.data.toList.drop 0 = dktX1_same_0 := by decide +kernel
theorem dksX1_same_1 : cX1_same.data.toList.drop 21 = dktX1_same_1 := dk_seg dksX1_same_0 21 rfl rfl
theorem dksX1_same_2 : cX1_same.data.toList.drop 45 = dktX1_same_2 := dk_seg dksX1_same_1 24 rfl rfl
theorem dksX1_same_3 : cX1_same.data.toList.drop 69 = dktX1_same_3 := dk_seg dksX1_same_2 24 rfl rfl
theorem dksX1_same_4 : cX1_same.data.toList.drop 92 = dktX1_same_4 := dk_seg dksX1_same_3 23 rfl rfl
theorem dksX1_same_5 : cX1_same.data.toList.drop 115 = dktX1_same_5 := dk_seg dksX1_same_4 23 rfl rfl
theorem dksX1_same_6 : cX1_same.data.toList.drop 139 = dktX1_same_6 := dk_seg dksX1_same_5 24 rfl rfl
theorem dksX1_same_7 : cX1_same.data.toList.drop 163 = dktX1_same_7 := dk_seg dksX1_same_6 24 rfl rfl
theorem dksX1_same_8 : cX1_same.data.toList.drop 186 = dktX1_same_8 := dk_seg dksX1_same_7 23 rfl rfl
theorem dksX1_same_9 : cX1_same.data.toList.drop 210 = dktX1_same_9 := dk_seg dksX1_same_8 24 rfl rfl
theorem dX1_same_0 : decode cX1_same 0 = .ok (.iload_n 1, 1) := dk_27 (dk_at dksX1_same_0 0 rfl rfl)
theorem dX1_same_1 : decode cX1_same 1 = .ok (.invokestatic 301, 3) := dk_184 1 45 (dk_at dksX1_same_0 1 rfl rfl)
theorem dX1_same_4 : decode cX1_same 4 = .ok (.ifCond .eq 10, 3) := dk_153 0 10 (dk_at dksX1_same_0 4 rfl rfl)
theorem dX1_same_7 : decode cX1_same 7 = .ok (.iload_n 2, 1) := dk_28 (dk_at dksX1_same_0 7 rfl rfl)
theorem dX1_same_8 : decode cX1_same 8 = .ok (.invokestatic 301, 3) := dk_184 1 45 (dk_at dksX1_same_0 8 rfl rfl)
theorem dX1_same_11 : decode cX1_same 11 = .ok (.ifCond .ne 5, 3) := dk_154 0 5 (dk_at dksX1_same_0 11 rfl rfl)
theorem dX1_same_14 : decode cX1_same 14 = .ok (.iconst (-1), 1) := dk_2 (dk_at dksX1_same_0 14 rfl rfl)
theorem dX1_same_15 : decode cX1_same 15 = .ok (.ireturn, 1) := dk_172 (dk_at dksX1_same_0 15 rfl rfl)
theorem dX1_same_16 : decode cX1_same 16 = .ok (.aload_n 0, 1) := dk_42 (dk_at dksX1_same_0 16 rfl rfl)
theorem dX1_same_17 : decode cX1_same 17 = .ok (.getfield 162, 3) := dk_180 0 162 (dk_at dksX1_same_0 17 rfl rfl)
theorem dX1_same_20 : decode cX1_same 20 = .ok (.iload_n 1, 1) := dk_27 (dk_at dksX1_same_0 20 rfl rfl)
theorem dX1_same_21 : decode cX1_same 21 = .ok (.invokeinterface 307 2, 5) := by decide +kernel
theorem dX1_same_26 : decode cX1_same 26 = .ok (.checkcast 157, 3) := dk_192 0 157 (dk_at dksX1_same_1 5 rfl rfl)
theorem dX1_same_29 : decode cX1_same 29 = .ok (.astore_n 3, 1) := dk_78 (dk_at dksX1_same_1 8 rfl rfl)
theorem dX1_same_30 : decode cX1_same 30 = .ok (.aload_n 0, 1) := dk_42 (dk_at dksX1_same_1 9 rfl rfl)
theorem dX1_same_31 : decode cX1_same 31 = .ok (.getfield 162, 3) := dk_180 0 162 (dk_at dksX1_same_1 10 rfl rfl)
theorem dX1_same_34 : decode cX1_same 34 = .ok (.iload_n 2, 1) := dk_28 (dk_at dksX1_same_1 13 rfl rfl)
theorem dX1_same_35 : decode cX1_same 35 = .ok (.invokeinterface 307 2, 5) := by decide +kernel
theorem dX1_same_40 : decode cX1_same 40 = .ok (.checkcast 157, 3) := dk_192 0 157 (dk_at dksX1_same_1 19 rfl rfl)
theorem dX1_same_43 : decode cX1_same 43 = .ok (.astore 4, 2) := dk_58 4 (dk_at dksX1_same_1 22 rfl rfl)
theorem dX1_same_45 : decode cX1_same 45 = .ok (.aload_n 3, 1) := dk_45 (dk_at dksX1_same_2 0 rfl rfl)
theorem dX1_same_46 : decode cX1_same 46 = .ok (.aload_n 0, 1) := dk_42 (dk_at dksX1_same_2 1 rfl rfl)
theorem dX1_same_47 : decode cX1_same 47 = .ok (.getfield 170, 3) := dk_180 0 170 (dk_at dksX1_same_2 2 rfl rfl)
theorem dX1_same_50 : decode cX1_same 50 = .ok (.invokevirtual 325, 3) := dk_182 1 69 (dk_at dksX1_same_2 5 rfl rfl)
theorem dX1_same_53 : decode cX1_same 53 = .ok (.istore 5, 2) := dk_54 5 (dk_at dksX1_same_2 8 rfl rfl)
theorem dX1_same_55 : decode cX1_same 55 = .ok (.aload 4, 2) := dk_25 4 (dk_at dksX1_same_2 10 rfl rfl)
theorem dX1_same_57 : decode cX1_same 57 = .ok (.aload_n 0, 1) := dk_42 (dk_at dksX1_same_2 12 rfl rfl)
theorem dX1_same_58 : decode cX1_same 58 = .ok (.getfield 173, 3) := dk_180 0 173 (dk_at dksX1_same_2 13 rfl rfl)
theorem dX1_same_61 : decode cX1_same 61 = .ok (.invokevirtual 325, 3) := dk_182 1 69 (dk_at dksX1_same_2 16 rfl rfl)
theorem dX1_same_64 : decode cX1_same 64 = .ok (.iload 5, 2) := dk_21 5 (dk_at dksX1_same_2 19 rfl rfl)
theorem dX1_same_66 : decode cX1_same 66 = .ok (.if_icmp .ne 7, 3) := dk_160 0 7 (dk_at dksX1_same_2 21 rfl rfl)
theorem dX1_same_69 : decode cX1_same 69 = .ok (.iconst 1, 1) := dk_4 (dk_at dksX1_same_3 0 rfl rfl)
theorem dX1_same_70 : decode cX1_same 70 = .ok (.goto 4, 3) := dk_167 0 4 (dk_at dksX1_same_3 1 rfl rfl)
theorem dX1_same_73 : decode cX1_same 73 = .ok (.iconst 0, 1) := dk_3 (dk_at dksX1_same_3 4 rfl rfl)
theorem dX1_same_74 : decode cX1_same 74 = .ok (.istore 6, 2) := dk_54 6 (dk_at dksX1_same_3 5 rfl rfl)
theorem dX1_same_76 : decode cX1_same 76 = .ok (.iconst 0, 1) := dk_3 (dk_at dksX1_same_3 7 rfl rfl)
theorem dX1_same_77 : decode cX1_same 77 = .ok (.istore 7, 2) := dk_54 7 (dk_at dksX1_same_3 8 rfl rfl)
theorem dX1_same_79 : decode cX1_same 79 = .ok (.iload 7, 2) := dk_21 7 (dk_at dksX1_same_3 10 rfl rfl)
theorem dX1_same_81 : decode cX1_same 81 = .ok (.iload 5, 2) := dk_21 5 (dk_at dksX1_same_3 12 rfl rfl)
theorem dX1_same_83 : decode cX1_same 83 = .ok (.if_icmp .ge 38, 3) := dk_162 0 38 (dk_at dksX1_same_3 14 rfl rfl)
theorem dX1_same_86 : decode cX1_same 86 = .ok (.iload 6, 2) := dk_21 6 (dk_at dksX1_same_3 17 rfl rfl)
theorem dX1_same_88 : decode cX1_same 88 = .ok (.ifCond .eq 33, 3) := dk_153 0 33 (dk_at dksX1_same_3 19 rfl rfl)
theorem dX1_same_91 : decode cX1_same 91 = .ok (.aload_n 0, 1) := dk_42 (dk_at dksX1_same_3 22 rfl rfl)
theorem dX1_same_92 : decode cX1_same 92 = .ok (.getfield 170, 3) := dk_180 0 170 (dk_at dksX1_same_4 0 rfl rfl)
theorem dX1_same_95 : decode cX1_same 95 = .ok (.iload 7, 2) := dk_21 7 (dk_at dksX1_same_4 3 rfl rfl)
theorem dX1_same_97 : decode cX1_same 97 = .ok (.iaload, 1) := dk_46 (dk_at dksX1_same_4 5 rfl rfl)
theorem dX1_same_98 : decode cX1_same 98 = .ok (.aload_n 0, 1) := dk_42 (dk_at dksX1_same_4 6 rfl rfl)
theorem dX1_same_99 : decode cX1_same 99 = .ok (.getfield 173, 3) := dk_180 0 173 (dk_at dksX1_same_4 7 rfl rfl)
theorem dX1_same_102 : decode cX1_same 102 = .ok (.iload 7, 2) := dk_21 7 (dk_at dksX1_same_4 10 rfl rfl)
theorem dX1_same_104 : decode cX1_same 104 = .ok (.iaload, 1) := dk_46 (dk_at dksX1_same_4 12 rfl rfl)
theorem dX1_same_105 : decode cX1_same 105 = .ok (.if_icmp .ne 7, 3) := dk_160 0 7 (dk_at dksX1_same_4 13 rfl rfl)
theorem dX1_same_108 : decode cX1_same 108 = .ok (.iconst 1, 1) := dk_4 (dk_at dksX1_same_4 16 rfl rfl)
theorem dX1_same_109 : decode cX1_same 109 = .ok (.goto 4, 3) := dk_167 0 4 (dk_at dksX1_same_4 17 rfl rfl)
theorem dX1_same_112 : decode cX1_same 112 = .ok (.iconst 0, 1) := dk_3 (dk_at dksX1_same_4 20 rfl rfl)
theorem dX1_same_113 : decode cX1_same 113 = .ok (.istore 6, 2) := dk_54 6 (dk_at dksX1_same_4 21 rfl rfl)
theorem dX1_same_115 : decode cX1_same 115 = .ok (.iinc 7 1, 3) := dk_132 7 1 (dk_at dksX1_same_5 0 rfl rfl)
theorem dX1_same_118 : decode cX1_same 118 = .ok (.goto (-39), 3) := dk_167 255 217 (dk_at dksX1_same_5 3 rfl rfl)
theorem dX1_same_121 : decode cX1_same 121 = .ok (.aload_n 3, 1) := dk_45 (dk_at dksX1_same_5 6 rfl rfl)
theorem dX1_same_122 : decode cX1_same 122 = .ok (.aload_n 0, 1) := dk_42 (dk_at dksX1_same_5 7 rfl rfl)
theorem dX1_same_123 : decode cX1_same 123 = .ok (.getfield 154, 3) := dk_180 0 154 (dk_at dksX1_same_5 8 rfl rfl)
theorem dX1_same_126 : decode cX1_same 126 = .ok (.invokevirtual 345, 3) := dk_182 1 89 (dk_at dksX1_same_5 11 rfl rfl)
theorem dX1_same_129 : decode cX1_same 129 = .ok (.aload 4, 2) := dk_25 4 (dk_at dksX1_same_5 14 rfl rfl)
theorem dX1_same_131 : decode cX1_same 131 = .ok (.aload_n 0, 1) := dk_42 (dk_at dksX1_same_5 16 rfl rfl)
theorem dX1_same_132 : decode cX1_same 132 = .ok (.getfield 151, 3) := dk_180 0 151 (dk_at dksX1_same_5 17 rfl rfl)
theorem dX1_same_135 : decode cX1_same 135 = .ok (.invokevirtual 345, 3) := dk_182 1 89 (dk_at dksX1_same_5 20 rfl rfl)
theorem dX1_same_138 : decode cX1_same 138 = .ok (.aload_n 0, 1) := dk_42 (dk_at dksX1_same_5 23 rfl rfl)
theorem dX1_same_139 : decode cX1_same 139 = .ok (.getfield 154, 3) := dk_180 0 154 (dk_at dksX1_same_6 0 rfl rfl)
theorem dX1_same_142 : decode cX1_same 142 = .ok (.aload_n 0, 1) := dk_42 (dk_at dksX1_same_6 3 rfl rfl)
theorem dX1_same_143 : decode cX1_same 143 = .ok (.getfield 151, 3) := dk_180 0 151 (dk_at dksX1_same_6 4 rfl rfl)
theorem dX1_same_146 : decode cX1_same 146 = .ok (.invokevirtual 297, 3) := dk_182 1 41 (dk_at dksX1_same_6 7 rfl rfl)
theorem dX1_same_149 : decode cX1_same 149 = .ok (.istore 7, 2) := dk_54 7 (dk_at dksX1_same_6 10 rfl rfl)
theorem dX1_same_151 : decode cX1_same 151 = .ok (.aload_n 0, 1) := dk_42 (dk_at dksX1_same_6 12 rfl rfl)
theorem dX1_same_152 : decode cX1_same 152 = .ok (.invokevirtual 420, 3) := dk_182 1 164 (dk_at dksX1_same_6 13 rfl rfl)
theorem dX1_same_155 : decode cX1_same 155 = .ok (.aload_n 0, 1) := dk_42 (dk_at dksX1_same_6 16 rfl rfl)
theorem dX1_same_156 : decode cX1_same 156 = .ok (.iload_n 1, 1) := dk_27 (dk_at dksX1_same_6 17 rfl rfl)
theorem dX1_same_157 : decode cX1_same 157 = .ok (.invokevirtual 423, 3) := dk_182 1 167 (dk_at dksX1_same_6 18 rfl rfl)
theorem dX1_same_160 : decode cX1_same 160 = .ok (.pop, 1) := dk_87 (dk_at dksX1_same_6 21 rfl rfl)
theorem dX1_same_161 : decode cX1_same 161 = .ok (.iload_n 1, 1) := dk_27 (dk_at dksX1_same_6 22 rfl rfl)
theorem dX1_same_162 : decode cX1_same 162 = .ok (.iload_n 2, 1) := dk_28 (dk_at dksX1_same_6 23 rfl rfl)
theorem dX1_same_163 : decode cX1_same 163 = .ok (.if_icmp .ne 8, 3) := dk_160 0 8 (dk_at dksX1_same_7 0 rfl rfl)
theorem dX1_same_166 : decode cX1_same 166 = .ok (.iload 5, 2) := dk_21 5 (dk_at dksX1_same_7 3 rfl rfl)
theorem dX1_same_168 : decode cX1_same 168 = .ok (.goto 8, 3) := dk_167 0 8 (dk_at dksX1_same_7 5 rfl rfl)
theorem dX1_same_171 : decode cX1_same 171 = .ok (.aload_n 0, 1) := dk_42 (dk_at dksX1_same_7 8 rfl rfl)
theorem dX1_same_172 : decode cX1_same 172 = .ok (.iload_n 2, 1) := dk_28 (dk_at dksX1_same_7 9 rfl rfl)
theorem dX1_same_173 : decode cX1_same 173 = .ok (.invokevirtual 423, 3) := dk_182 1 167 (dk_at dksX1_same_7 10 rfl rfl)
theorem dX1_same_176 : decode cX1_same 176 = .ok (.istore 8, 2) := dk_54 8 (dk_at dksX1_same_7 13 rfl rfl)
theorem dX1_same_178 : decode cX1_same 178 = .ok (.aload_n 0, 1) := dk_42 (dk_at dksX1_same_7 15 rfl rfl)
theorem dX1_same_179 : decode cX1_same 179 = .ok (.iconst 0, 1) := dk_3 (dk_at dksX1_same_7 16 rfl rfl)
theorem dX1_same_180 : decode cX1_same 180 = .ok (.putfield 199, 3) := dk_181 0 199 (dk_at dksX1_same_7 17 rfl rfl)
theorem dX1_same_183 : decode cX1_same 183 = .ok (.aload_n 0, 1) := dk_42 (dk_at dksX1_same_7 20 rfl rfl)
theorem dX1_same_184 : decode cX1_same 184 = .ok (.iload 7, 2) := dk_21 7 (dk_at dksX1_same_7 21 rfl rfl)
theorem dX1_same_186 : decode cX1_same 186 = .ok (.ifCond .eq 7, 3) := dk_153 0 7 (dk_at dksX1_same_8 0 rfl rfl)
theorem dX1_same_189 : decode cX1_same 189 = .ok (.lconst 1, 1) := dk_10 (dk_at dksX1_same_8 3 rfl rfl)
theorem dX1_same_190 : decode cX1_same 190 = .ok (.goto 4, 3) := dk_167 0 4 (dk_at dksX1_same_8 4 rfl rfl)
theorem dX1_same_193 : decode cX1_same 193 = .ok (.lconst 0, 1) := dk_9 (dk_at dksX1_same_8 7 rfl rfl)
theorem dX1_same_194 : decode cX1_same 194 = .ok (.invokevirtual 202, 3) := dk_182 0 202 (dk_at dksX1_same_8 8 rfl rfl)
theorem dX1_same_197 : decode cX1_same 197 = .ok (.aload_n 0, 1) := dk_42 (dk_at dksX1_same_8 11 rfl rfl)
theorem dX1_same_198 : decode cX1_same 198 = .ok (.iload 8, 2) := dk_21 8 (dk_at dksX1_same_8 12 rfl rfl)
theorem dX1_same_200 : decode cX1_same 200 = .ok (.i2l, 1) := dk_133 (dk_at dksX1_same_8 14 rfl rfl)
theorem dX1_same_201 : decode cX1_same 201 = .ok (.invokevirtual 202, 3) := dk_182 0 202 (dk_at dksX1_same_8 15 rfl rfl)
theorem dX1_same_204 : decode cX1_same 204 = .ok (.iload 6, 2) := dk_21 6 (dk_at dksX1_same_8 18 rfl rfl)
theorem dX1_same_206 : decode cX1_same 206 = .ok (.ifCond .eq 7, 3) := dk_153 0 7 (dk_at dksX1_same_8 20 rfl rfl)
theorem dX1_same_209 : decode cX1_same 209 = .ok (.iconst 1, 1) := dk_4 (dk_at dksX1_same_8 23 rfl rfl)
theorem dX1_same_210 : decode cX1_same 210 = .ok (.goto 4, 3) := dk_167 0 4 (dk_at dksX1_same_9 0 rfl rfl)
theorem dX1_same_213 : decode cX1_same 213 = .ok (.iconst 0, 1) := dk_3 (dk_at dksX1_same_9 3 rfl rfl)
theorem dX1_same_214 : decode cX1_same 214 = .ok (.ireturn, 1) := dk_172 (dk_at dksX1_same_9 4 rfl rfl)
def dkwX1_begins_0 : List UInt8 := [42, 89, 180, 1, 155, 4, 96, 181, 1, 155, 177]
abbrev dktX1_begins_0 : List UInt8 := dkwX1_begins_0 ++ []
theorem dksX1_begins_0 : cX1_begins.data.toList.drop 0 = dktX1_begins_0 := by decide +kernel
theorem dX1_begins_0 : decode cX1_begins 0 = .ok (.aload_n 0, 1) := dk_42 (dk_at dksX1_begins_0 0 rfl rfl)
theorem dX1_begins_1 : decode cX1_begins 1 = .ok (.dup, 1) := dk_89 (dk_at dksX1_begins_0 1 rfl rfl)
theorem dX1_begins_2 : decode cX1_begins 2 = .ok (.getfield 411, 3) := dk_180 1 155 (dk_at dksX1_begins_0 2 rfl rfl)
theorem dX1_begins_5 : decode cX1_begins 5 = .ok (.iconst 1, 1) := dk_4 (dk_at dksX1_begins_0 5 rfl rfl)
theorem dX1_begins_6 : decode cX1_begins 6 = .ok (.iadd, 1) := dk_96 (dk_at dksX1_begins_0 6 rfl rfl)
theorem dX1_begins_7 : decode cX1_begins 7 = .ok (.putfield 411, 3) := dk_181 1 155 (dk_at dksX1_begins_0 7 rfl rfl)
theorem dX1_begins_10 : decode cX1_begins 10 = .ok (.return_, 1) := dk_177 (dk_at dksX1_begins_0 10 rfl rfl)
def dkwX1_meets_5 : List UInt8 := [58, 8, 167, 255, 184, 132, 6, 1, 167, 255, 160, 28, 172]
abbrev dktX1_meets_5 : List UInt8 := dkwX1_meets_5 ++ []
def dkwX1_meets_4 : List UInt8 := [167, 0, 4, 3, 96, 61, 25, 8, 89, 180, 1, 159, 4, 27, 120, 128, 181, 1, 159, 25, 8, 180, 1, 130]
abbrev dktX1_meets_4 : List UInt8 := dkwX1_meets_4 ++ dktX1_meets_5
def dkwX1_meets_3 : List UInt8 := [25, 8, 42, 180, 1, 155, 181, 1, 158, 28, 25, 8, 180, 1, 159, 184, 1, 161, 4, 160, 0, 7, 4]
abbrev dktX1_meets_3 : List UInt8 := dkwX1_meets_3 ++ dktX1_meets_4
def dkwX1_meets_2 : List UInt8 := [25, 8, 198, 0, 73, 25, 8, 180, 1, 158, 42, 180, 1, 155, 159, 0, 9, 25, 8, 3, 181, 1, 159]
abbrev dktX1_meets_2 : List UInt8 := dkwX1_meets_2 ++ dktX1_meets_3
def dkwX1_meets_1 : List UInt8 := [190, 54, 5, 3, 54, 6, 21, 6, 21, 5, 162, 0, 95, 25, 4, 21, 6, 50, 58, 7, 25, 7, 58, 8]
abbrev dktX1_meets_1 : List UInt8 := dkwX1_meets_1 ++ dktX1_meets_2
def dkwX1_meets_0 : List UInt8 := [3, 61, 42, 180, 0, 162, 27, 185, 1, 51, 2, 0, 192, 0, 157, 78, 45, 180, 1, 126, 58, 4, 25, 4]
abbrev dktX1_meets_0 : List UInt8 := dkwX1_meets_0 ++ dktX1_meets_1
theorem dksX1_meets_0 : cX1_meets.data.toList.drop 0 = dktX1_meets_0 := by decide +kernel
theorem dksX1_meets_1 : cX1_meets.data.toList.drop 24 = dktX1_meets_1 := dk_seg dksX1_meets_0 24 rfl rfl
theorem dksX1_meets_2 : cX1_meets.data.toList.drop 48 = dktX1_meets_2 := dk_seg dksX1_meets_1 24 rfl rfl
theorem dksX1_meets_3 : cX1_meets.data.toList.drop 71 = dktX1_meets_3 := dk_seg dksX1_meets_2 23 rfl rfl
theorem dksX1_meets_4 : cX1_meets.data.toList.drop 94 = dktX1_meets_4 := dk_seg dksX1_meets_3 23 rfl rfl
theorem dksX1_meets_5 : cX1_meets.data.toList.drop 118 = dktX1_meets_5 := dk_seg dksX1_meets_4 24 rfl rfl
theorem dX1_meets_0 : decode cX1_meets 0 = .ok (.iconst 0, 1) := dk_3 (dk_at dksX1_meets_0 0 rfl rfl)
theorem dX1_meets_1 : decode cX1_meets 1 = .ok (.istore_n 2, 1) := dk_61 (dk_at dksX1_meets_0 1 rfl rfl)
theorem dX1_meets_2 : decode cX1_meets 2 = .ok (.aload_n 0, 1) := dk_42 (dk_at dksX1_meets_0 2 rfl rfl)
theorem dX1_meets_3 : decode cX1_meets 3 = .ok (.getfield 162, 3) := dk_180 0 162 (dk_at dksX1_meets_0 3 rfl rfl)
theorem dX1_meets_6 : decode cX1_meets 6 = .ok (.iload_n 1, 1) := dk_27 (dk_at dksX1_meets_0 6 rfl rfl)
theorem dX1_meets_7 : decode cX1_meets 7 = .ok (.invokeinterface 307 2, 5) := by decide +kernel
theorem dX1_meets_12 : decode cX1_meets 12 = .ok (.checkcast 157, 3) := dk_192 0 157 (dk_at dksX1_meets_0 12 rfl rfl)
theorem dX1_meets_15 : decode cX1_meets 15 = .ok (.astore_n 3, 1) := dk_78 (dk_at dksX1_meets_0 15 rfl rfl)
theorem dX1_meets_16 : decode cX1_meets 16 = .ok (.aload_n 3, 1) := dk_45 (dk_at dksX1_meets_0 16 rfl rfl)
theorem dX1_meets_17 : decode cX1_meets 17 = .ok (.getfield 382, 3) := dk_180 1 126 (dk_at dksX1_meets_0 17 rfl rfl)
theorem dX1_meets_20 : decode cX1_meets 20 = .ok (.astore 4, 2) := dk_58 4 (dk_at dksX1_meets_0 20 rfl rfl)
theorem dX1_meets_22 : decode cX1_meets 22 = .ok (.aload 4, 2) := dk_25 4 (dk_at dksX1_meets_0 22 rfl rfl)
theorem dX1_meets_24 : decode cX1_meets 24 = .ok (.arraylength, 1) := dk_190 (dk_at dksX1_meets_1 0 rfl rfl)
theorem dX1_meets_25 : decode cX1_meets 25 = .ok (.istore 5, 2) := dk_54 5 (dk_at dksX1_meets_1 1 rfl rfl)
theorem dX1_meets_27 : decode cX1_meets 27 = .ok (.iconst 0, 1) := dk_3 (dk_at dksX1_meets_1 3 rfl rfl)
theorem dX1_meets_28 : decode cX1_meets 28 = .ok (.istore 6, 2) := dk_54 6 (dk_at dksX1_meets_1 4 rfl rfl)
theorem dX1_meets_30 : decode cX1_meets 30 = .ok (.iload 6, 2) := dk_21 6 (dk_at dksX1_meets_1 6 rfl rfl)
theorem dX1_meets_32 : decode cX1_meets 32 = .ok (.iload 5, 2) := dk_21 5 (dk_at dksX1_meets_1 8 rfl rfl)
theorem dX1_meets_34 : decode cX1_meets 34 = .ok (.if_icmp .ge 95, 3) := dk_162 0 95 (dk_at dksX1_meets_1 10 rfl rfl)
theorem dX1_meets_37 : decode cX1_meets 37 = .ok (.aload 4, 2) := dk_25 4 (dk_at dksX1_meets_1 13 rfl rfl)
theorem dX1_meets_39 : decode cX1_meets 39 = .ok (.iload 6, 2) := dk_21 6 (dk_at dksX1_meets_1 15 rfl rfl)
theorem dX1_meets_41 : decode cX1_meets 41 = .ok (.aaload, 1) := dk_50 (dk_at dksX1_meets_1 17 rfl rfl)
theorem dX1_meets_42 : decode cX1_meets 42 = .ok (.astore 7, 2) := dk_58 7 (dk_at dksX1_meets_1 18 rfl rfl)
theorem dX1_meets_44 : decode cX1_meets 44 = .ok (.aload 7, 2) := dk_25 7 (dk_at dksX1_meets_1 20 rfl rfl)
theorem dX1_meets_46 : decode cX1_meets 46 = .ok (.astore 8, 2) := dk_58 8 (dk_at dksX1_meets_1 22 rfl rfl)
theorem dX1_meets_48 : decode cX1_meets 48 = .ok (.aload 8, 2) := dk_25 8 (dk_at dksX1_meets_2 0 rfl rfl)
theorem dX1_meets_50 : decode cX1_meets 50 = .ok (.ifnull 73, 3) := dk_198 0 73 (dk_at dksX1_meets_2 2 rfl rfl)
theorem dX1_meets_53 : decode cX1_meets 53 = .ok (.aload 8, 2) := dk_25 8 (dk_at dksX1_meets_2 5 rfl rfl)
theorem dX1_meets_55 : decode cX1_meets 55 = .ok (.getfield 414, 3) := dk_180 1 158 (dk_at dksX1_meets_2 7 rfl rfl)
theorem dX1_meets_58 : decode cX1_meets 58 = .ok (.aload_n 0, 1) := dk_42 (dk_at dksX1_meets_2 10 rfl rfl)
theorem dX1_meets_59 : decode cX1_meets 59 = .ok (.getfield 411, 3) := dk_180 1 155 (dk_at dksX1_meets_2 11 rfl rfl)
theorem dX1_meets_62 : decode cX1_meets 62 = .ok (.if_icmp .eq 9, 3) := dk_159 0 9 (dk_at dksX1_meets_2 14 rfl rfl)
theorem dX1_meets_65 : decode cX1_meets 65 = .ok (.aload 8, 2) := dk_25 8 (dk_at dksX1_meets_2 17 rfl rfl)
theorem dX1_meets_67 : decode cX1_meets 67 = .ok (.iconst 0, 1) := dk_3 (dk_at dksX1_meets_2 19 rfl rfl)
theorem dX1_meets_68 : decode cX1_meets 68 = .ok (.putfield 415, 3) := dk_181 1 159 (dk_at dksX1_meets_2 20 rfl rfl)
theorem dX1_meets_71 : decode cX1_meets 71 = .ok (.aload 8, 2) := dk_25 8 (dk_at dksX1_meets_3 0 rfl rfl)
theorem dX1_meets_73 : decode cX1_meets 73 = .ok (.aload_n 0, 1) := dk_42 (dk_at dksX1_meets_3 2 rfl rfl)
theorem dX1_meets_74 : decode cX1_meets 74 = .ok (.getfield 411, 3) := dk_180 1 155 (dk_at dksX1_meets_3 3 rfl rfl)
theorem dX1_meets_77 : decode cX1_meets 77 = .ok (.putfield 414, 3) := dk_181 1 158 (dk_at dksX1_meets_3 6 rfl rfl)
theorem dX1_meets_80 : decode cX1_meets 80 = .ok (.iload_n 2, 1) := dk_28 (dk_at dksX1_meets_3 9 rfl rfl)
theorem dX1_meets_81 : decode cX1_meets 81 = .ok (.aload 8, 2) := dk_25 8 (dk_at dksX1_meets_3 10 rfl rfl)
theorem dX1_meets_83 : decode cX1_meets 83 = .ok (.getfield 415, 3) := dk_180 1 159 (dk_at dksX1_meets_3 12 rfl rfl)
theorem dX1_meets_86 : decode cX1_meets 86 = .ok (.invokestatic 417, 3) := dk_184 1 161 (dk_at dksX1_meets_3 15 rfl rfl)
theorem dX1_meets_89 : decode cX1_meets 89 = .ok (.iconst 1, 1) := dk_4 (dk_at dksX1_meets_3 18 rfl rfl)
theorem dX1_meets_90 : decode cX1_meets 90 = .ok (.if_icmp .ne 7, 3) := dk_160 0 7 (dk_at dksX1_meets_3 19 rfl rfl)
theorem dX1_meets_93 : decode cX1_meets 93 = .ok (.iconst 1, 1) := dk_4 (dk_at dksX1_meets_3 22 rfl rfl)
theorem dX1_meets_94 : decode cX1_meets 94 = .ok (.goto 4, 3) := dk_167 0 4 (dk_at dksX1_meets_4 0 rfl rfl)
theorem dX1_meets_97 : decode cX1_meets 97 = .ok (.iconst 0, 1) := dk_3 (dk_at dksX1_meets_4 3 rfl rfl)
theorem dX1_meets_98 : decode cX1_meets 98 = .ok (.iadd, 1) := dk_96 (dk_at dksX1_meets_4 4 rfl rfl)
theorem dX1_meets_99 : decode cX1_meets 99 = .ok (.istore_n 2, 1) := dk_61 (dk_at dksX1_meets_4 5 rfl rfl)
theorem dX1_meets_100 : decode cX1_meets 100 = .ok (.aload 8, 2) := dk_25 8 (dk_at dksX1_meets_4 6 rfl rfl)
theorem dX1_meets_102 : decode cX1_meets 102 = .ok (.dup, 1) := dk_89 (dk_at dksX1_meets_4 8 rfl rfl)
theorem dX1_meets_103 : decode cX1_meets 103 = .ok (.getfield 415, 3) := dk_180 1 159 (dk_at dksX1_meets_4 9 rfl rfl)
theorem dX1_meets_106 : decode cX1_meets 106 = .ok (.iconst 1, 1) := dk_4 (dk_at dksX1_meets_4 12 rfl rfl)
theorem dX1_meets_107 : decode cX1_meets 107 = .ok (.iload_n 1, 1) := dk_27 (dk_at dksX1_meets_4 13 rfl rfl)
theorem dX1_meets_108 : decode cX1_meets 108 = .ok (.ishl, 1) := dk_120 (dk_at dksX1_meets_4 14 rfl rfl)
theorem dX1_meets_109 : decode cX1_meets 109 = .ok (.ior, 1) := dk_128 (dk_at dksX1_meets_4 15 rfl rfl)
theorem dX1_meets_110 : decode cX1_meets 110 = .ok (.putfield 415, 3) := dk_181 1 159 (dk_at dksX1_meets_4 16 rfl rfl)
theorem dX1_meets_113 : decode cX1_meets 113 = .ok (.aload 8, 2) := dk_25 8 (dk_at dksX1_meets_4 19 rfl rfl)
theorem dX1_meets_115 : decode cX1_meets 115 = .ok (.getfield 386, 3) := dk_180 1 130 (dk_at dksX1_meets_4 21 rfl rfl)
theorem dX1_meets_118 : decode cX1_meets 118 = .ok (.astore 8, 2) := dk_58 8 (dk_at dksX1_meets_5 0 rfl rfl)
theorem dX1_meets_120 : decode cX1_meets 120 = .ok (.goto (-72), 3) := dk_167 255 184 (dk_at dksX1_meets_5 2 rfl rfl)
theorem dX1_meets_123 : decode cX1_meets 123 = .ok (.iinc 6 1, 3) := dk_132 6 1 (dk_at dksX1_meets_5 5 rfl rfl)
theorem dX1_meets_126 : decode cX1_meets 126 = .ok (.goto (-96), 3) := dk_167 255 160 (dk_at dksX1_meets_5 8 rfl rfl)
theorem dX1_meets_129 : decode cX1_meets 129 = .ok (.iload_n 2, 1) := dk_28 (dk_at dksX1_meets_5 11 rfl rfl)
theorem dX1_meets_130 : decode cX1_meets 130 = .ok (.ireturn, 1) := dk_172 (dk_at dksX1_meets_5 12 rfl rfl)
def dkwX1_shared_7 : List UInt8 := [133, 182, 0, 202, 42, 27, 133, 182, 0, 202, 29, 172]
abbrev dktX1_shared_7 : List UInt8 := dkwX1_shared_7 ++ []
def dkwX1_shared_6 : List UInt8 := [58, 9, 167, 255, 223, 132, 7, 1, 167, 255, 199, 132, 4, 1, 167, 255, 160, 42, 3, 181, 0, 199, 42, 28]
abbrev dktX1_shared_6 : List UInt8 := dkwX1_shared_6 ++ dktX1_shared_7
def dkwX1_shared_5 : List UInt8 := [180, 1, 159, 184, 1, 170, 21, 4, 160, 0, 7, 4, 167, 0, 4, 3, 96, 62, 25, 9, 180, 1, 130]
abbrev dktX1_shared_5 : List UInt8 := dkwX1_shared_5 ++ dktX1_shared_6
def dkwX1_shared_4 : List UInt8 := [21, 6, 162, 0, 56, 25, 5, 21, 7, 50, 58, 8, 25, 8, 58, 9, 25, 9, 198, 0, 34, 29, 25, 9]
abbrev dktX1_shared_4 : List UInt8 := dkwX1_shared_4 ++ dktX1_shared_5
def dkwX1_shared_3 : List UInt8 := [185, 1, 51, 2, 0, 192, 0, 157, 180, 1, 126, 58, 5, 25, 5, 190, 54, 6, 3, 54, 7, 21, 7]
abbrev dktX1_shared_3 : List UInt8 := dkwX1_shared_3 ++ dktX1_shared_4
def dkwX1_shared_2 : List UInt8 := [132, 4, 1, 167, 255, 218, 3, 54, 4, 21, 4, 7, 162, 0, 96, 42, 180, 0, 162, 21, 4]
abbrev dktX1_shared_2 : List UInt8 := dkwX1_shared_2 ++ dktX1_shared_3
def dkwX1_shared_1 : List UInt8 := [21, 4, 185, 1, 51, 2, 0, 192, 0, 157, 182, 1, 54, 96, 60, 28, 42, 21, 4, 182, 1, 167, 96, 61]
abbrev dktX1_shared_1 : List UInt8 := dkwX1_shared_1 ++ dktX1_shared_2
def dkwX1_shared_0 : List UInt8 := [42, 182, 1, 164, 3, 60, 3, 61, 3, 62, 3, 54, 4, 21, 4, 7, 162, 0, 38, 27, 42, 180, 0, 162]
abbrev dktX1_shared_0 : List UInt8 := dkwX1_shared_0 ++ dktX1_shared_1
theorem dksX1_shared_0 : cX1_shared.data.toList.drop 0 = dktX1_shared_0 := by decide +kernel
theorem dksX1_shared_1 : cX1_shared.data.toList.drop 24 = dktX1_shared_1 := dk_seg dksX1_shared_0 24 rfl rfl
theorem dksX1_shared_2 : cX1_shared.data.toList.drop 48 = dktX1_shared_2 := dk_seg dksX1_shared_1 24 rfl rfl
theorem dksX1_shared_3 : cX1_shared.data.toList.drop 69 = dktX1_shared_3 := dk_seg dksX1_shared_2 21 rfl rfl
theorem dksX1_shared_4 : cX1_shared.data.toList.drop 92 = dktX1_shared_4 := dk_seg dksX1_shared_3 23 rfl rfl
theorem dksX1_shared_5 : cX1_shared.data.toList.drop 116 = dktX1_shared_5 := dk_seg dksX1_shared_4 24 rfl rfl
theorem dksX1_shared_6 : cX1_shared.data.toList.drop 139 = dktX1_shared_6 := dk_seg dksX1_shared_5 23 rfl rfl
theorem dksX1_shared_7 : cX1_shared.data.toList.drop 163 = dktX1_shared_7 := dk_seg dksX1_shared_6 24 rfl rfl
theorem dX1_shared_0 : decode cX1_shared 0 = .ok (.aload_n 0, 1) := dk_42 (dk_at dksX1_shared_0 0 rfl rfl)
theorem dX1_shared_1 : decode cX1_shared 1 = .ok (.invokevirtual 420, 3) := dk_182 1 164 (dk_at dksX1_shared_0 1 rfl rfl)
theorem dX1_shared_4 : decode cX1_shared 4 = .ok (.iconst 0, 1) := dk_3 (dk_at dksX1_shared_0 4 rfl rfl)
theorem dX1_shared_5 : decode cX1_shared 5 = .ok (.istore_n 1, 1) := dk_60 (dk_at dksX1_shared_0 5 rfl rfl)
theorem dX1_shared_6 : decode cX1_shared 6 = .ok (.iconst 0, 1) := dk_3 (dk_at dksX1_shared_0 6 rfl rfl)
theorem dX1_shared_7 : decode cX1_shared 7 = .ok (.istore_n 2, 1) := dk_61 (dk_at dksX1_shared_0 7 rfl rfl)
theorem dX1_shared_8 : decode cX1_shared 8 = .ok (.iconst 0, 1) := dk_3 (dk_at dksX1_shared_0 8 rfl rfl)
theorem dX1_shared_9 : decode cX1_shared 9 = .ok (.istore_n 3, 1) := dk_62 (dk_at dksX1_shared_0 9 rfl rfl)
theorem dX1_shared_10 : decode cX1_shared 10 = .ok (.iconst 0, 1) := dk_3 (dk_at dksX1_shared_0 10 rfl rfl)
theorem dX1_shared_11 : decode cX1_shared 11 = .ok (.istore 4, 2) := dk_54 4 (dk_at dksX1_shared_0 11 rfl rfl)
theorem dX1_shared_13 : decode cX1_shared 13 = .ok (.iload 4, 2) := dk_21 4 (dk_at dksX1_shared_0 13 rfl rfl)
theorem dX1_shared_15 : decode cX1_shared 15 = .ok (.iconst 4, 1) := dk_7 (dk_at dksX1_shared_0 15 rfl rfl)
theorem dX1_shared_16 : decode cX1_shared 16 = .ok (.if_icmp .ge 38, 3) := dk_162 0 38 (dk_at dksX1_shared_0 16 rfl rfl)
theorem dX1_shared_19 : decode cX1_shared 19 = .ok (.iload_n 1, 1) := dk_27 (dk_at dksX1_shared_0 19 rfl rfl)
theorem dX1_shared_20 : decode cX1_shared 20 = .ok (.aload_n 0, 1) := dk_42 (dk_at dksX1_shared_0 20 rfl rfl)
theorem dX1_shared_21 : decode cX1_shared 21 = .ok (.getfield 162, 3) := dk_180 0 162 (dk_at dksX1_shared_0 21 rfl rfl)
theorem dX1_shared_24 : decode cX1_shared 24 = .ok (.iload 4, 2) := dk_21 4 (dk_at dksX1_shared_1 0 rfl rfl)
theorem dX1_shared_26 : decode cX1_shared 26 = .ok (.invokeinterface 307 2, 5) := by decide +kernel
theorem dX1_shared_31 : decode cX1_shared 31 = .ok (.checkcast 157, 3) := dk_192 0 157 (dk_at dksX1_shared_1 7 rfl rfl)
theorem dX1_shared_34 : decode cX1_shared 34 = .ok (.invokevirtual 310, 3) := dk_182 1 54 (dk_at dksX1_shared_1 10 rfl rfl)
theorem dX1_shared_37 : decode cX1_shared 37 = .ok (.iadd, 1) := dk_96 (dk_at dksX1_shared_1 13 rfl rfl)
theorem dX1_shared_38 : decode cX1_shared 38 = .ok (.istore_n 1, 1) := dk_60 (dk_at dksX1_shared_1 14 rfl rfl)
theorem dX1_shared_39 : decode cX1_shared 39 = .ok (.iload_n 2, 1) := dk_28 (dk_at dksX1_shared_1 15 rfl rfl)
theorem dX1_shared_40 : decode cX1_shared 40 = .ok (.aload_n 0, 1) := dk_42 (dk_at dksX1_shared_1 16 rfl rfl)
theorem dX1_shared_41 : decode cX1_shared 41 = .ok (.iload 4, 2) := dk_21 4 (dk_at dksX1_shared_1 17 rfl rfl)
theorem dX1_shared_43 : decode cX1_shared 43 = .ok (.invokevirtual 423, 3) := dk_182 1 167 (dk_at dksX1_shared_1 19 rfl rfl)
theorem dX1_shared_46 : decode cX1_shared 46 = .ok (.iadd, 1) := dk_96 (dk_at dksX1_shared_1 22 rfl rfl)
theorem dX1_shared_47 : decode cX1_shared 47 = .ok (.istore_n 2, 1) := dk_61 (dk_at dksX1_shared_1 23 rfl rfl)
theorem dX1_shared_48 : decode cX1_shared 48 = .ok (.iinc 4 1, 3) := dk_132 4 1 (dk_at dksX1_shared_2 0 rfl rfl)
theorem dX1_shared_51 : decode cX1_shared 51 = .ok (.goto (-38), 3) := dk_167 255 218 (dk_at dksX1_shared_2 3 rfl rfl)
theorem dX1_shared_54 : decode cX1_shared 54 = .ok (.iconst 0, 1) := dk_3 (dk_at dksX1_shared_2 6 rfl rfl)
theorem dX1_shared_55 : decode cX1_shared 55 = .ok (.istore 4, 2) := dk_54 4 (dk_at dksX1_shared_2 7 rfl rfl)
theorem dX1_shared_57 : decode cX1_shared 57 = .ok (.iload 4, 2) := dk_21 4 (dk_at dksX1_shared_2 9 rfl rfl)
theorem dX1_shared_59 : decode cX1_shared 59 = .ok (.iconst 4, 1) := dk_7 (dk_at dksX1_shared_2 11 rfl rfl)
theorem dX1_shared_60 : decode cX1_shared 60 = .ok (.if_icmp .ge 96, 3) := dk_162 0 96 (dk_at dksX1_shared_2 12 rfl rfl)
theorem dX1_shared_63 : decode cX1_shared 63 = .ok (.aload_n 0, 1) := dk_42 (dk_at dksX1_shared_2 15 rfl rfl)
theorem dX1_shared_64 : decode cX1_shared 64 = .ok (.getfield 162, 3) := dk_180 0 162 (dk_at dksX1_shared_2 16 rfl rfl)
theorem dX1_shared_67 : decode cX1_shared 67 = .ok (.iload 4, 2) := dk_21 4 (dk_at dksX1_shared_2 19 rfl rfl)
theorem dX1_shared_69 : decode cX1_shared 69 = .ok (.invokeinterface 307 2, 5) := by decide +kernel
theorem dX1_shared_74 : decode cX1_shared 74 = .ok (.checkcast 157, 3) := dk_192 0 157 (dk_at dksX1_shared_3 5 rfl rfl)
theorem dX1_shared_77 : decode cX1_shared 77 = .ok (.getfield 382, 3) := dk_180 1 126 (dk_at dksX1_shared_3 8 rfl rfl)
theorem dX1_shared_80 : decode cX1_shared 80 = .ok (.astore 5, 2) := dk_58 5 (dk_at dksX1_shared_3 11 rfl rfl)
theorem dX1_shared_82 : decode cX1_shared 82 = .ok (.aload 5, 2) := dk_25 5 (dk_at dksX1_shared_3 13 rfl rfl)
theorem dX1_shared_84 : decode cX1_shared 84 = .ok (.arraylength, 1) := dk_190 (dk_at dksX1_shared_3 15 rfl rfl)
theorem dX1_shared_85 : decode cX1_shared 85 = .ok (.istore 6, 2) := dk_54 6 (dk_at dksX1_shared_3 16 rfl rfl)
theorem dX1_shared_87 : decode cX1_shared 87 = .ok (.iconst 0, 1) := dk_3 (dk_at dksX1_shared_3 18 rfl rfl)
theorem dX1_shared_88 : decode cX1_shared 88 = .ok (.istore 7, 2) := dk_54 7 (dk_at dksX1_shared_3 19 rfl rfl)
theorem dX1_shared_90 : decode cX1_shared 90 = .ok (.iload 7, 2) := dk_21 7 (dk_at dksX1_shared_3 21 rfl rfl)
theorem dX1_shared_92 : decode cX1_shared 92 = .ok (.iload 6, 2) := dk_21 6 (dk_at dksX1_shared_4 0 rfl rfl)
theorem dX1_shared_94 : decode cX1_shared 94 = .ok (.if_icmp .ge 56, 3) := dk_162 0 56 (dk_at dksX1_shared_4 2 rfl rfl)
theorem dX1_shared_97 : decode cX1_shared 97 = .ok (.aload 5, 2) := dk_25 5 (dk_at dksX1_shared_4 5 rfl rfl)
theorem dX1_shared_99 : decode cX1_shared 99 = .ok (.iload 7, 2) := dk_21 7 (dk_at dksX1_shared_4 7 rfl rfl)
theorem dX1_shared_101 : decode cX1_shared 101 = .ok (.aaload, 1) := dk_50 (dk_at dksX1_shared_4 9 rfl rfl)
theorem dX1_shared_102 : decode cX1_shared 102 = .ok (.astore 8, 2) := dk_58 8 (dk_at dksX1_shared_4 10 rfl rfl)
theorem dX1_shared_104 : decode cX1_shared 104 = .ok (.aload 8, 2) := dk_25 8 (dk_at dksX1_shared_4 12 rfl rfl)
theorem dX1_shared_106 : decode cX1_shared 106 = .ok (.astore 9, 2) := dk_58 9 (dk_at dksX1_shared_4 14 rfl rfl)
theorem dX1_shared_108 : decode cX1_shared 108 = .ok (.aload 9, 2) := dk_25 9 (dk_at dksX1_shared_4 16 rfl rfl)
theorem dX1_shared_110 : decode cX1_shared 110 = .ok (.ifnull 34, 3) := dk_198 0 34 (dk_at dksX1_shared_4 18 rfl rfl)
theorem dX1_shared_113 : decode cX1_shared 113 = .ok (.iload_n 3, 1) := dk_29 (dk_at dksX1_shared_4 21 rfl rfl)
theorem dX1_shared_114 : decode cX1_shared 114 = .ok (.aload 9, 2) := dk_25 9 (dk_at dksX1_shared_4 22 rfl rfl)
theorem dX1_shared_116 : decode cX1_shared 116 = .ok (.getfield 415, 3) := dk_180 1 159 (dk_at dksX1_shared_5 0 rfl rfl)
theorem dX1_shared_119 : decode cX1_shared 119 = .ok (.invokestatic 426, 3) := dk_184 1 170 (dk_at dksX1_shared_5 3 rfl rfl)
theorem dX1_shared_122 : decode cX1_shared 122 = .ok (.iload 4, 2) := dk_21 4 (dk_at dksX1_shared_5 6 rfl rfl)
theorem dX1_shared_124 : decode cX1_shared 124 = .ok (.if_icmp .ne 7, 3) := dk_160 0 7 (dk_at dksX1_shared_5 8 rfl rfl)
theorem dX1_shared_127 : decode cX1_shared 127 = .ok (.iconst 1, 1) := dk_4 (dk_at dksX1_shared_5 11 rfl rfl)
theorem dX1_shared_128 : decode cX1_shared 128 = .ok (.goto 4, 3) := dk_167 0 4 (dk_at dksX1_shared_5 12 rfl rfl)
theorem dX1_shared_131 : decode cX1_shared 131 = .ok (.iconst 0, 1) := dk_3 (dk_at dksX1_shared_5 15 rfl rfl)
theorem dX1_shared_132 : decode cX1_shared 132 = .ok (.iadd, 1) := dk_96 (dk_at dksX1_shared_5 16 rfl rfl)
theorem dX1_shared_133 : decode cX1_shared 133 = .ok (.istore_n 3, 1) := dk_62 (dk_at dksX1_shared_5 17 rfl rfl)
theorem dX1_shared_134 : decode cX1_shared 134 = .ok (.aload 9, 2) := dk_25 9 (dk_at dksX1_shared_5 18 rfl rfl)
theorem dX1_shared_136 : decode cX1_shared 136 = .ok (.getfield 386, 3) := dk_180 1 130 (dk_at dksX1_shared_5 20 rfl rfl)
theorem dX1_shared_139 : decode cX1_shared 139 = .ok (.astore 9, 2) := dk_58 9 (dk_at dksX1_shared_6 0 rfl rfl)
theorem dX1_shared_141 : decode cX1_shared 141 = .ok (.goto (-33), 3) := dk_167 255 223 (dk_at dksX1_shared_6 2 rfl rfl)
theorem dX1_shared_144 : decode cX1_shared 144 = .ok (.iinc 7 1, 3) := dk_132 7 1 (dk_at dksX1_shared_6 5 rfl rfl)
theorem dX1_shared_147 : decode cX1_shared 147 = .ok (.goto (-57), 3) := dk_167 255 199 (dk_at dksX1_shared_6 8 rfl rfl)
theorem dX1_shared_150 : decode cX1_shared 150 = .ok (.iinc 4 1, 3) := dk_132 4 1 (dk_at dksX1_shared_6 11 rfl rfl)
theorem dX1_shared_153 : decode cX1_shared 153 = .ok (.goto (-96), 3) := dk_167 255 160 (dk_at dksX1_shared_6 14 rfl rfl)
theorem dX1_shared_156 : decode cX1_shared 156 = .ok (.aload_n 0, 1) := dk_42 (dk_at dksX1_shared_6 17 rfl rfl)
theorem dX1_shared_157 : decode cX1_shared 157 = .ok (.iconst 0, 1) := dk_3 (dk_at dksX1_shared_6 18 rfl rfl)
theorem dX1_shared_158 : decode cX1_shared 158 = .ok (.putfield 199, 3) := dk_181 0 199 (dk_at dksX1_shared_6 19 rfl rfl)
theorem dX1_shared_161 : decode cX1_shared 161 = .ok (.aload_n 0, 1) := dk_42 (dk_at dksX1_shared_6 22 rfl rfl)
theorem dX1_shared_162 : decode cX1_shared 162 = .ok (.iload_n 2, 1) := dk_28 (dk_at dksX1_shared_6 23 rfl rfl)
theorem dX1_shared_163 : decode cX1_shared 163 = .ok (.i2l, 1) := dk_133 (dk_at dksX1_shared_7 0 rfl rfl)
theorem dX1_shared_164 : decode cX1_shared 164 = .ok (.invokevirtual 202, 3) := dk_182 0 202 (dk_at dksX1_shared_7 1 rfl rfl)
theorem dX1_shared_167 : decode cX1_shared 167 = .ok (.aload_n 0, 1) := dk_42 (dk_at dksX1_shared_7 4 rfl rfl)
theorem dX1_shared_168 : decode cX1_shared 168 = .ok (.iload_n 1, 1) := dk_27 (dk_at dksX1_shared_7 5 rfl rfl)
theorem dX1_shared_169 : decode cX1_shared 169 = .ok (.i2l, 1) := dk_133 (dk_at dksX1_shared_7 6 rfl rfl)
theorem dX1_shared_170 : decode cX1_shared 170 = .ok (.invokevirtual 202, 3) := dk_182 0 202 (dk_at dksX1_shared_7 7 rfl rfl)
theorem dX1_shared_173 : decode cX1_shared 173 = .ok (.iload_n 3, 1) := dk_29 (dk_at dksX1_shared_7 10 rfl rfl)
theorem dX1_shared_174 : decode cX1_shared 174 = .ok (.ireturn, 1) := dk_172 (dk_at dksX1_shared_7 11 rfl rfl)
def dkwX1_would_5 : List UInt8 := [21, 6, 100, 133, 167, 0, 8, 21, 6, 4, 100, 133, 182, 0, 202, 21, 5, 172]
abbrev dktX1_would_5 : List UInt8 := dkwX1_would_5 ++ []
def dkwX1_would_4 : List UInt8 := [21, 6, 4, 100, 133, 167, 0, 9, 21, 4, 21, 6, 100, 133, 182, 0, 202, 42, 28, 154, 0, 12, 21, 4]
abbrev dktX1_would_4 : List UInt8 := dkwX1_would_4 ++ dktX1_would_5
def dkwX1_would_3 : List UInt8 := [96, 5, 108, 167, 0, 9, 45, 180, 0, 225, 28, 46, 54, 6, 42, 3, 181, 0, 199, 42, 28, 154, 0, 11]
abbrev dktX1_would_3 : List UInt8 := dkwX1_would_3 ++ dktX1_would_4
def dkwX1_would_2 : List UInt8 := [180, 0, 225, 28, 46, 154, 0, 8, 21, 4, 167, 0, 4, 3, 54, 5, 21, 5, 158, 0, 12, 21, 4, 4]
abbrev dktX1_would_2 : List UInt8 := dkwX1_would_2 ++ dktX1_would_3
def dkwX1_would_1 : List UInt8 := [185, 1, 51, 2, 0, 192, 0, 157, 78, 45, 182, 1, 54, 54, 4, 21, 4, 154, 0, 6, 16, 254, 172, 45]
abbrev dktX1_would_1 : List UInt8 := dkwX1_would_1 ++ dktX1_would_2
def dkwX1_would_0 : List UInt8 := [27, 184, 1, 45, 153, 0, 10, 28, 184, 1, 48, 154, 0, 5, 2, 172, 42, 180, 0, 162, 27]
abbrev dktX1_would_0 : List UInt8 := dkwX1_would_0 ++ dktX1_would_1
theorem dksX1_would_0 : cX1_would.data.toList.drop 0 = dktX1_would_0 := by decide +kernel
theorem dksX1_would_1 : cX1_would.data.toList.drop 21 = dktX1_would_1 := dk_seg dksX1_would_0 21 rfl rfl
theorem dksX1_would_2 : cX1_would.data.toList.drop 45 = dktX1_would_2 := dk_seg dksX1_would_1 24 rfl rfl
theorem dksX1_would_3 : cX1_would.data.toList.drop 69 = dktX1_would_3 := dk_seg dksX1_would_2 24 rfl rfl
theorem dksX1_would_4 : cX1_would.data.toList.drop 93 = dktX1_would_4 := dk_seg dksX1_would_3 24 rfl rfl
theorem dksX1_would_5 : cX1_would.data.toList.drop 117 = dktX1_would_5 := dk_seg dksX1_would_4 24 rfl rfl
theorem dX1_would_0 : decode cX1_would 0 = .ok (.iload_n 1, 1) := dk_27 (dk_at dksX1_would_0 0 rfl rfl)
theorem dX1_would_1 : decode cX1_would 1 = .ok (.invokestatic 301, 3) := dk_184 1 45 (dk_at dksX1_would_0 1 rfl rfl)
theorem dX1_would_4 : decode cX1_would 4 = .ok (.ifCond .eq 10, 3) := dk_153 0 10 (dk_at dksX1_would_0 4 rfl rfl)
theorem dX1_would_7 : decode cX1_would 7 = .ok (.iload_n 2, 1) := dk_28 (dk_at dksX1_would_0 7 rfl rfl)
theorem dX1_would_8 : decode cX1_would 8 = .ok (.invokestatic 304, 3) := dk_184 1 48 (dk_at dksX1_would_0 8 rfl rfl)
theorem dX1_would_11 : decode cX1_would 11 = .ok (.ifCond .ne 5, 3) := dk_154 0 5 (dk_at dksX1_would_0 11 rfl rfl)
theorem dX1_would_14 : decode cX1_would 14 = .ok (.iconst (-1), 1) := dk_2 (dk_at dksX1_would_0 14 rfl rfl)
theorem dX1_would_15 : decode cX1_would 15 = .ok (.ireturn, 1) := dk_172 (dk_at dksX1_would_0 15 rfl rfl)
theorem dX1_would_16 : decode cX1_would 16 = .ok (.aload_n 0, 1) := dk_42 (dk_at dksX1_would_0 16 rfl rfl)
theorem dX1_would_17 : decode cX1_would 17 = .ok (.getfield 162, 3) := dk_180 0 162 (dk_at dksX1_would_0 17 rfl rfl)
theorem dX1_would_20 : decode cX1_would 20 = .ok (.iload_n 1, 1) := dk_27 (dk_at dksX1_would_0 20 rfl rfl)
theorem dX1_would_21 : decode cX1_would 21 = .ok (.invokeinterface 307 2, 5) := by decide +kernel
theorem dX1_would_26 : decode cX1_would 26 = .ok (.checkcast 157, 3) := dk_192 0 157 (dk_at dksX1_would_1 5 rfl rfl)
theorem dX1_would_29 : decode cX1_would 29 = .ok (.astore_n 3, 1) := dk_78 (dk_at dksX1_would_1 8 rfl rfl)
theorem dX1_would_30 : decode cX1_would 30 = .ok (.aload_n 3, 1) := dk_45 (dk_at dksX1_would_1 9 rfl rfl)
theorem dX1_would_31 : decode cX1_would 31 = .ok (.invokevirtual 310, 3) := dk_182 1 54 (dk_at dksX1_would_1 10 rfl rfl)
theorem dX1_would_34 : decode cX1_would 34 = .ok (.istore 4, 2) := dk_54 4 (dk_at dksX1_would_1 13 rfl rfl)
theorem dX1_would_36 : decode cX1_would 36 = .ok (.iload 4, 2) := dk_21 4 (dk_at dksX1_would_1 15 rfl rfl)
theorem dX1_would_38 : decode cX1_would 38 = .ok (.ifCond .ne 6, 3) := dk_154 0 6 (dk_at dksX1_would_1 17 rfl rfl)
theorem dX1_would_41 : decode cX1_would 41 = .ok (.bipush (-2), 2) := dk_16 254 (dk_at dksX1_would_1 20 rfl rfl)
theorem dX1_would_43 : decode cX1_would 43 = .ok (.ireturn, 1) := dk_172 (dk_at dksX1_would_1 22 rfl rfl)
theorem dX1_would_44 : decode cX1_would 44 = .ok (.aload_n 3, 1) := dk_45 (dk_at dksX1_would_1 23 rfl rfl)
theorem dX1_would_45 : decode cX1_would 45 = .ok (.getfield 225, 3) := dk_180 0 225 (dk_at dksX1_would_2 0 rfl rfl)
theorem dX1_would_48 : decode cX1_would 48 = .ok (.iload_n 2, 1) := dk_28 (dk_at dksX1_would_2 3 rfl rfl)
theorem dX1_would_49 : decode cX1_would 49 = .ok (.iaload, 1) := dk_46 (dk_at dksX1_would_2 4 rfl rfl)
theorem dX1_would_50 : decode cX1_would 50 = .ok (.ifCond .ne 8, 3) := dk_154 0 8 (dk_at dksX1_would_2 5 rfl rfl)
theorem dX1_would_53 : decode cX1_would 53 = .ok (.iload 4, 2) := dk_21 4 (dk_at dksX1_would_2 8 rfl rfl)
theorem dX1_would_55 : decode cX1_would 55 = .ok (.goto 4, 3) := dk_167 0 4 (dk_at dksX1_would_2 10 rfl rfl)
theorem dX1_would_58 : decode cX1_would 58 = .ok (.iconst 0, 1) := dk_3 (dk_at dksX1_would_2 13 rfl rfl)
theorem dX1_would_59 : decode cX1_would 59 = .ok (.istore 5, 2) := dk_54 5 (dk_at dksX1_would_2 14 rfl rfl)
theorem dX1_would_61 : decode cX1_would 61 = .ok (.iload 5, 2) := dk_21 5 (dk_at dksX1_would_2 16 rfl rfl)
theorem dX1_would_63 : decode cX1_would 63 = .ok (.ifCond .le 12, 3) := dk_158 0 12 (dk_at dksX1_would_2 18 rfl rfl)
theorem dX1_would_66 : decode cX1_would 66 = .ok (.iload 4, 2) := dk_21 4 (dk_at dksX1_would_2 21 rfl rfl)
theorem dX1_would_68 : decode cX1_would 68 = .ok (.iconst 1, 1) := dk_4 (dk_at dksX1_would_2 23 rfl rfl)
theorem dX1_would_69 : decode cX1_would 69 = .ok (.iadd, 1) := dk_96 (dk_at dksX1_would_3 0 rfl rfl)
theorem dX1_would_70 : decode cX1_would 70 = .ok (.iconst 2, 1) := dk_5 (dk_at dksX1_would_3 1 rfl rfl)
theorem dX1_would_71 : decode cX1_would 71 = .ok (.idiv, 1) := dk_108 (dk_at dksX1_would_3 2 rfl rfl)
theorem dX1_would_72 : decode cX1_would 72 = .ok (.goto 9, 3) := dk_167 0 9 (dk_at dksX1_would_3 3 rfl rfl)
theorem dX1_would_75 : decode cX1_would 75 = .ok (.aload_n 3, 1) := dk_45 (dk_at dksX1_would_3 6 rfl rfl)
theorem dX1_would_76 : decode cX1_would 76 = .ok (.getfield 225, 3) := dk_180 0 225 (dk_at dksX1_would_3 7 rfl rfl)
theorem dX1_would_79 : decode cX1_would 79 = .ok (.iload_n 2, 1) := dk_28 (dk_at dksX1_would_3 10 rfl rfl)
theorem dX1_would_80 : decode cX1_would 80 = .ok (.iaload, 1) := dk_46 (dk_at dksX1_would_3 11 rfl rfl)
theorem dX1_would_81 : decode cX1_would 81 = .ok (.istore 6, 2) := dk_54 6 (dk_at dksX1_would_3 12 rfl rfl)
theorem dX1_would_83 : decode cX1_would 83 = .ok (.aload_n 0, 1) := dk_42 (dk_at dksX1_would_3 14 rfl rfl)
theorem dX1_would_84 : decode cX1_would 84 = .ok (.iconst 0, 1) := dk_3 (dk_at dksX1_would_3 15 rfl rfl)
theorem dX1_would_85 : decode cX1_would 85 = .ok (.putfield 199, 3) := dk_181 0 199 (dk_at dksX1_would_3 16 rfl rfl)
theorem dX1_would_88 : decode cX1_would 88 = .ok (.aload_n 0, 1) := dk_42 (dk_at dksX1_would_3 19 rfl rfl)
theorem dX1_would_89 : decode cX1_would 89 = .ok (.iload_n 2, 1) := dk_28 (dk_at dksX1_would_3 20 rfl rfl)
theorem dX1_would_90 : decode cX1_would 90 = .ok (.ifCond .ne 11, 3) := dk_154 0 11 (dk_at dksX1_would_3 21 rfl rfl)
theorem dX1_would_93 : decode cX1_would 93 = .ok (.iload 6, 2) := dk_21 6 (dk_at dksX1_would_4 0 rfl rfl)
theorem dX1_would_95 : decode cX1_would 95 = .ok (.iconst 1, 1) := dk_4 (dk_at dksX1_would_4 2 rfl rfl)
theorem dX1_would_96 : decode cX1_would 96 = .ok (.isub, 1) := dk_100 (dk_at dksX1_would_4 3 rfl rfl)
theorem dX1_would_97 : decode cX1_would 97 = .ok (.i2l, 1) := dk_133 (dk_at dksX1_would_4 4 rfl rfl)
theorem dX1_would_98 : decode cX1_would 98 = .ok (.goto 9, 3) := dk_167 0 9 (dk_at dksX1_would_4 5 rfl rfl)
theorem dX1_would_101 : decode cX1_would 101 = .ok (.iload 4, 2) := dk_21 4 (dk_at dksX1_would_4 8 rfl rfl)
theorem dX1_would_103 : decode cX1_would 103 = .ok (.iload 6, 2) := dk_21 6 (dk_at dksX1_would_4 10 rfl rfl)
theorem dX1_would_105 : decode cX1_would 105 = .ok (.isub, 1) := dk_100 (dk_at dksX1_would_4 12 rfl rfl)
theorem dX1_would_106 : decode cX1_would 106 = .ok (.i2l, 1) := dk_133 (dk_at dksX1_would_4 13 rfl rfl)
theorem dX1_would_107 : decode cX1_would 107 = .ok (.invokevirtual 202, 3) := dk_182 0 202 (dk_at dksX1_would_4 14 rfl rfl)
theorem dX1_would_110 : decode cX1_would 110 = .ok (.aload_n 0, 1) := dk_42 (dk_at dksX1_would_4 17 rfl rfl)
theorem dX1_would_111 : decode cX1_would 111 = .ok (.iload_n 2, 1) := dk_28 (dk_at dksX1_would_4 18 rfl rfl)
theorem dX1_would_112 : decode cX1_would 112 = .ok (.ifCond .ne 12, 3) := dk_154 0 12 (dk_at dksX1_would_4 19 rfl rfl)
theorem dX1_would_115 : decode cX1_would 115 = .ok (.iload 4, 2) := dk_21 4 (dk_at dksX1_would_4 22 rfl rfl)
theorem dX1_would_117 : decode cX1_would 117 = .ok (.iload 6, 2) := dk_21 6 (dk_at dksX1_would_5 0 rfl rfl)
theorem dX1_would_119 : decode cX1_would 119 = .ok (.isub, 1) := dk_100 (dk_at dksX1_would_5 2 rfl rfl)
theorem dX1_would_120 : decode cX1_would 120 = .ok (.i2l, 1) := dk_133 (dk_at dksX1_would_5 3 rfl rfl)
theorem dX1_would_121 : decode cX1_would 121 = .ok (.goto 8, 3) := dk_167 0 8 (dk_at dksX1_would_5 4 rfl rfl)
theorem dX1_would_124 : decode cX1_would 124 = .ok (.iload 6, 2) := dk_21 6 (dk_at dksX1_would_5 7 rfl rfl)
theorem dX1_would_126 : decode cX1_would 126 = .ok (.iconst 1, 1) := dk_4 (dk_at dksX1_would_5 9 rfl rfl)
theorem dX1_would_127 : decode cX1_would 127 = .ok (.isub, 1) := dk_100 (dk_at dksX1_would_5 10 rfl rfl)
theorem dX1_would_128 : decode cX1_would 128 = .ok (.i2l, 1) := dk_133 (dk_at dksX1_would_5 11 rfl rfl)
theorem dX1_would_129 : decode cX1_would 129 = .ok (.invokevirtual 202, 3) := dk_182 0 202 (dk_at dksX1_would_5 12 rfl rfl)
theorem dX1_would_132 : decode cX1_would 132 = .ok (.iload 5, 2) := dk_21 5 (dk_at dksX1_would_5 15 rfl rfl)
theorem dX1_would_134 : decode cX1_would 134 = .ok (.ireturn, 1) := dk_172 (dk_at dksX1_would_5 17 rfl rfl)
def dkwX1_dearest_4 : List UInt8 := [180, 1, 173, 172]
abbrev dktX1_dearest_4 : List UInt8 := dkwX1_dearest_4 ++ []
def dkwX1_dearest_3 : List UInt8 := [46, 3, 28, 3, 3, 182, 1, 179, 42, 3, 181, 0, 199, 42, 42, 180, 1, 176, 133, 182, 0, 202, 42]
abbrev dktX1_dearest_3 : List UInt8 := dkwX1_dearest_3 ++ dktX1_dearest_4
def dkwX1_dearest_2 : List UInt8 := [42, 3, 181, 1, 173, 42, 17, 16, 0, 181, 1, 176, 42, 45, 180, 0, 225, 3, 46, 45, 180, 0, 225, 4]
abbrev dktX1_dearest_2 : List UInt8 := dkwX1_dearest_2 ++ dktX1_dearest_3
def dkwX1_dearest_1 : List UInt8 := [180, 0, 162, 27, 185, 1, 51, 2, 0, 192, 0, 157, 78, 45, 182, 1, 54, 28, 162, 0, 6, 16, 254, 172]
abbrev dktX1_dearest_1 : List UInt8 := dkwX1_dearest_1 ++ dktX1_dearest_2
def dkwX1_dearest_0 : List UInt8 := [27, 184, 1, 45, 153, 0, 15, 28, 133, 10, 20, 1, 183, 184, 0, 5, 154, 0, 5, 2, 172, 42]
abbrev dktX1_dearest_0 : List UInt8 := dkwX1_dearest_0 ++ dktX1_dearest_1
theorem dksX1_dearest_0 : cX1_dearest.data.toList.drop 0 = dktX1_dearest_0 := by decide +kernel
theorem dksX1_dearest_1 : cX1_dearest.data.toList.drop 22 = dktX1_dearest_1 := dk_seg dksX1_dearest_0 22 rfl rfl
theorem dksX1_dearest_2 : cX1_dearest.data.toList.drop 46 = dktX1_dearest_2 := dk_seg dksX1_dearest_1 24 rfl rfl
theorem dksX1_dearest_3 : cX1_dearest.data.toList.drop 70 = dktX1_dearest_3 := dk_seg dksX1_dearest_2 24 rfl rfl
theorem dksX1_dearest_4 : cX1_dearest.data.toList.drop 93 = dktX1_dearest_4 := dk_seg dksX1_dearest_3 23 rfl rfl
theorem dX1_dearest_0 : decode cX1_dearest 0 = .ok (.iload_n 1, 1) := dk_27 (dk_at dksX1_dearest_0 0 rfl rfl)
theorem dX1_dearest_1 : decode cX1_dearest 1 = .ok (.invokestatic 301, 3) := dk_184 1 45 (dk_at dksX1_dearest_0 1 rfl rfl)
theorem dX1_dearest_4 : decode cX1_dearest 4 = .ok (.ifCond .eq 15, 3) := dk_153 0 15 (dk_at dksX1_dearest_0 4 rfl rfl)
theorem dX1_dearest_7 : decode cX1_dearest 7 = .ok (.iload_n 2, 1) := dk_28 (dk_at dksX1_dearest_0 7 rfl rfl)
theorem dX1_dearest_8 : decode cX1_dearest 8 = .ok (.i2l, 1) := dk_133 (dk_at dksX1_dearest_0 8 rfl rfl)
theorem dX1_dearest_9 : decode cX1_dearest 9 = .ok (.lconst 1, 1) := dk_10 (dk_at dksX1_dearest_0 9 rfl rfl)
theorem dX1_dearest_10 : decode cX1_dearest 10 = .ok (.ldc2_w 439, 3) := dk_20 1 183 (dk_at dksX1_dearest_0 10 rfl rfl)
theorem dX1_dearest_13 : decode cX1_dearest 13 = .ok (.invokestatic 5, 3) := dk_184 0 5 (dk_at dksX1_dearest_0 13 rfl rfl)
theorem dX1_dearest_16 : decode cX1_dearest 16 = .ok (.ifCond .ne 5, 3) := dk_154 0 5 (dk_at dksX1_dearest_0 16 rfl rfl)
theorem dX1_dearest_19 : decode cX1_dearest 19 = .ok (.iconst (-1), 1) := dk_2 (dk_at dksX1_dearest_0 19 rfl rfl)
theorem dX1_dearest_20 : decode cX1_dearest 20 = .ok (.ireturn, 1) := dk_172 (dk_at dksX1_dearest_0 20 rfl rfl)
theorem dX1_dearest_21 : decode cX1_dearest 21 = .ok (.aload_n 0, 1) := dk_42 (dk_at dksX1_dearest_0 21 rfl rfl)
theorem dX1_dearest_22 : decode cX1_dearest 22 = .ok (.getfield 162, 3) := dk_180 0 162 (dk_at dksX1_dearest_1 0 rfl rfl)
theorem dX1_dearest_25 : decode cX1_dearest 25 = .ok (.iload_n 1, 1) := dk_27 (dk_at dksX1_dearest_1 3 rfl rfl)
theorem dX1_dearest_26 : decode cX1_dearest 26 = .ok (.invokeinterface 307 2, 5) := by decide +kernel
theorem dX1_dearest_31 : decode cX1_dearest 31 = .ok (.checkcast 157, 3) := dk_192 0 157 (dk_at dksX1_dearest_1 9 rfl rfl)
theorem dX1_dearest_34 : decode cX1_dearest 34 = .ok (.astore_n 3, 1) := dk_78 (dk_at dksX1_dearest_1 12 rfl rfl)
theorem dX1_dearest_35 : decode cX1_dearest 35 = .ok (.aload_n 3, 1) := dk_45 (dk_at dksX1_dearest_1 13 rfl rfl)
theorem dX1_dearest_36 : decode cX1_dearest 36 = .ok (.invokevirtual 310, 3) := dk_182 1 54 (dk_at dksX1_dearest_1 14 rfl rfl)
theorem dX1_dearest_39 : decode cX1_dearest 39 = .ok (.iload_n 2, 1) := dk_28 (dk_at dksX1_dearest_1 17 rfl rfl)
theorem dX1_dearest_40 : decode cX1_dearest 40 = .ok (.if_icmp .ge 6, 3) := dk_162 0 6 (dk_at dksX1_dearest_1 18 rfl rfl)
theorem dX1_dearest_43 : decode cX1_dearest 43 = .ok (.bipush (-2), 2) := dk_16 254 (dk_at dksX1_dearest_1 21 rfl rfl)
theorem dX1_dearest_45 : decode cX1_dearest 45 = .ok (.ireturn, 1) := dk_172 (dk_at dksX1_dearest_1 23 rfl rfl)
theorem dX1_dearest_46 : decode cX1_dearest 46 = .ok (.aload_n 0, 1) := dk_42 (dk_at dksX1_dearest_2 0 rfl rfl)
theorem dX1_dearest_47 : decode cX1_dearest 47 = .ok (.iconst 0, 1) := dk_3 (dk_at dksX1_dearest_2 1 rfl rfl)
theorem dX1_dearest_48 : decode cX1_dearest 48 = .ok (.putfield 429, 3) := dk_181 1 173 (dk_at dksX1_dearest_2 2 rfl rfl)
theorem dX1_dearest_51 : decode cX1_dearest 51 = .ok (.aload_n 0, 1) := dk_42 (dk_at dksX1_dearest_2 5 rfl rfl)
theorem dX1_dearest_52 : decode cX1_dearest 52 = .ok (.sipush 4096, 3) := dk_17 16 0 (dk_at dksX1_dearest_2 6 rfl rfl)
theorem dX1_dearest_55 : decode cX1_dearest 55 = .ok (.putfield 432, 3) := dk_181 1 176 (dk_at dksX1_dearest_2 9 rfl rfl)
theorem dX1_dearest_58 : decode cX1_dearest 58 = .ok (.aload_n 0, 1) := dk_42 (dk_at dksX1_dearest_2 12 rfl rfl)
theorem dX1_dearest_59 : decode cX1_dearest 59 = .ok (.aload_n 3, 1) := dk_45 (dk_at dksX1_dearest_2 13 rfl rfl)
theorem dX1_dearest_60 : decode cX1_dearest 60 = .ok (.getfield 225, 3) := dk_180 0 225 (dk_at dksX1_dearest_2 14 rfl rfl)
theorem dX1_dearest_63 : decode cX1_dearest 63 = .ok (.iconst 0, 1) := dk_3 (dk_at dksX1_dearest_2 17 rfl rfl)
theorem dX1_dearest_64 : decode cX1_dearest 64 = .ok (.iaload, 1) := dk_46 (dk_at dksX1_dearest_2 18 rfl rfl)
theorem dX1_dearest_65 : decode cX1_dearest 65 = .ok (.aload_n 3, 1) := dk_45 (dk_at dksX1_dearest_2 19 rfl rfl)
theorem dX1_dearest_66 : decode cX1_dearest 66 = .ok (.getfield 225, 3) := dk_180 0 225 (dk_at dksX1_dearest_2 20 rfl rfl)
theorem dX1_dearest_69 : decode cX1_dearest 69 = .ok (.iconst 1, 1) := dk_4 (dk_at dksX1_dearest_2 23 rfl rfl)
theorem dX1_dearest_70 : decode cX1_dearest 70 = .ok (.iaload, 1) := dk_46 (dk_at dksX1_dearest_3 0 rfl rfl)
theorem dX1_dearest_71 : decode cX1_dearest 71 = .ok (.iconst 0, 1) := dk_3 (dk_at dksX1_dearest_3 1 rfl rfl)
theorem dX1_dearest_72 : decode cX1_dearest 72 = .ok (.iload_n 2, 1) := dk_28 (dk_at dksX1_dearest_3 2 rfl rfl)
theorem dX1_dearest_73 : decode cX1_dearest 73 = .ok (.iconst 0, 1) := dk_3 (dk_at dksX1_dearest_3 3 rfl rfl)
theorem dX1_dearest_74 : decode cX1_dearest 74 = .ok (.iconst 0, 1) := dk_3 (dk_at dksX1_dearest_3 4 rfl rfl)
theorem dX1_dearest_75 : decode cX1_dearest 75 = .ok (.invokevirtual 435, 3) := dk_182 1 179 (dk_at dksX1_dearest_3 5 rfl rfl)
theorem dX1_dearest_78 : decode cX1_dearest 78 = .ok (.aload_n 0, 1) := dk_42 (dk_at dksX1_dearest_3 8 rfl rfl)
theorem dX1_dearest_79 : decode cX1_dearest 79 = .ok (.iconst 0, 1) := dk_3 (dk_at dksX1_dearest_3 9 rfl rfl)
theorem dX1_dearest_80 : decode cX1_dearest 80 = .ok (.putfield 199, 3) := dk_181 0 199 (dk_at dksX1_dearest_3 10 rfl rfl)
theorem dX1_dearest_83 : decode cX1_dearest 83 = .ok (.aload_n 0, 1) := dk_42 (dk_at dksX1_dearest_3 13 rfl rfl)
theorem dX1_dearest_84 : decode cX1_dearest 84 = .ok (.aload_n 0, 1) := dk_42 (dk_at dksX1_dearest_3 14 rfl rfl)
theorem dX1_dearest_85 : decode cX1_dearest 85 = .ok (.getfield 432, 3) := dk_180 1 176 (dk_at dksX1_dearest_3 15 rfl rfl)
theorem dX1_dearest_88 : decode cX1_dearest 88 = .ok (.i2l, 1) := dk_133 (dk_at dksX1_dearest_3 18 rfl rfl)
theorem dX1_dearest_89 : decode cX1_dearest 89 = .ok (.invokevirtual 202, 3) := dk_182 0 202 (dk_at dksX1_dearest_3 19 rfl rfl)
theorem dX1_dearest_92 : decode cX1_dearest 92 = .ok (.aload_n 0, 1) := dk_42 (dk_at dksX1_dearest_3 22 rfl rfl)
theorem dX1_dearest_93 : decode cX1_dearest 93 = .ok (.getfield 429, 3) := dk_180 1 173 (dk_at dksX1_dearest_4 0 rfl rfl)
theorem dX1_dearest_96 : decode cX1_dearest 96 = .ok (.ireturn, 1) := dk_172 (dk_at dksX1_dearest_4 3 rfl rfl)
def dkwX1_tries_8 : List UInt8 := [182, 1, 179, 177]
abbrev dktX1_tries_8 : List UInt8 := dkwX1_tries_8 ++ []
def dkwX1_tries_7 : List UInt8 := [21, 4, 21, 5, 21, 9, 153, 0, 8, 21, 7, 167, 0, 4, 3, 96, 21, 6, 4, 29, 120, 128]
abbrev dktX1_tries_7 : List UInt8 := dkwX1_tries_7 ++ dktX1_tries_8
def dkwX1_tries_6 : List UInt8 := [21, 8, 100, 167, 0, 4, 27, 21, 9, 153, 0, 8, 21, 8, 167, 0, 4, 28, 4, 100, 29, 4, 96]
abbrev dktX1_tries_6 : List UInt8 := dkwX1_tries_6 ++ dktX1_tries_7
def dkwX1_tries_5 : List UInt8 := [21, 6, 182, 1, 179, 28, 154, 0, 7, 4, 167, 0, 4, 3, 54, 9, 42, 21, 9, 153, 0, 11, 21, 7]
abbrev dktX1_tries_5 : List UInt8 := dkwX1_tries_5 ++ dktX1_tries_6
def dkwX1_tries_4 : List UInt8 := [167, 0, 4, 28, 29, 4, 96, 21, 4, 21, 5, 21, 9, 153, 0, 8, 21, 7, 167, 0, 4, 3, 96]
abbrev dktX1_tries_4 : List UInt8 := dkwX1_tries_4 ++ dktX1_tries_5
def dkwX1_tries_3 : List UInt8 := [21, 9, 153, 0, 8, 21, 8, 167, 0, 4, 27, 4, 100, 21, 9, 153, 0, 11, 21, 7, 21, 8, 100]
abbrev dktX1_tries_3 : List UInt8 := dkwX1_tries_3 ++ dktX1_tries_4
def dkwX1_tries_2 : List UInt8 := [28, 96, 54, 7, 21, 7, 4, 96, 5, 108, 54, 8, 27, 154, 0, 7, 4, 167, 0, 4, 3, 54, 9, 42]
abbrev dktX1_tries_2 : List UInt8 := dkwX1_tries_2 ++ dktX1_tries_3
def dkwX1_tries_1 : List UInt8 := [21, 6, 42, 180, 1, 176, 164, 0, 4, 177, 42, 21, 5, 181, 1, 173, 42, 21, 6, 181, 1, 176, 177, 27]
abbrev dktX1_tries_1 : List UInt8 := dkwX1_tries_1 ++ dktX1_tries_2
def dkwX1_tries_0 : List UInt8 := [29, 21, 4, 160, 0, 44, 21, 5, 42, 180, 1, 173, 161, 0, 21, 21, 5, 42, 180, 1, 173, 160, 0, 13]
abbrev dktX1_tries_0 : List UInt8 := dkwX1_tries_0 ++ dktX1_tries_1
theorem dksX1_tries_0 : cX1_tries.data.toList.drop 0 = dktX1_tries_0 := by decide +kernel
theorem dksX1_tries_1 : cX1_tries.data.toList.drop 24 = dktX1_tries_1 := dk_seg dksX1_tries_0 24 rfl rfl
theorem dksX1_tries_2 : cX1_tries.data.toList.drop 48 = dktX1_tries_2 := dk_seg dksX1_tries_1 24 rfl rfl
theorem dksX1_tries_3 : cX1_tries.data.toList.drop 72 = dktX1_tries_3 := dk_seg dksX1_tries_2 24 rfl rfl
theorem dksX1_tries_4 : cX1_tries.data.toList.drop 95 = dktX1_tries_4 := dk_seg dksX1_tries_3 23 rfl rfl
theorem dksX1_tries_5 : cX1_tries.data.toList.drop 118 = dktX1_tries_5 := dk_seg dksX1_tries_4 23 rfl rfl
theorem dksX1_tries_6 : cX1_tries.data.toList.drop 142 = dktX1_tries_6 := dk_seg dksX1_tries_5 24 rfl rfl
theorem dksX1_tries_7 : cX1_tries.data.toList.drop 165 = dktX1_tries_7 := dk_seg dksX1_tries_6 23 rfl rfl
theorem dksX1_tries_8 : cX1_tries.data.toList.drop 187 = dktX1_tries_8 := dk_seg dksX1_tries_7 22 rfl rfl
theorem dX1_tries_0 : decode cX1_tries 0 = .ok (.iload_n 3, 1) := dk_29 (dk_at dksX1_tries_0 0 rfl rfl)
theorem dX1_tries_1 : decode cX1_tries 1 = .ok (.iload 4, 2) := dk_21 4 (dk_at dksX1_tries_0 1 rfl rfl)
theorem dX1_tries_3 : decode cX1_tries 3 = .ok (.if_icmp .ne 44, 3) := dk_160 0 44 (dk_at dksX1_tries_0 3 rfl rfl)
theorem dX1_tries_6 : decode cX1_tries 6 = .ok (.iload 5, 2) := dk_21 5 (dk_at dksX1_tries_0 6 rfl rfl)
theorem dX1_tries_8 : decode cX1_tries 8 = .ok (.aload_n 0, 1) := dk_42 (dk_at dksX1_tries_0 8 rfl rfl)
theorem dX1_tries_9 : decode cX1_tries 9 = .ok (.getfield 429, 3) := dk_180 1 173 (dk_at dksX1_tries_0 9 rfl rfl)
theorem dX1_tries_12 : decode cX1_tries 12 = .ok (.if_icmp .lt 21, 3) := dk_161 0 21 (dk_at dksX1_tries_0 12 rfl rfl)
theorem dX1_tries_15 : decode cX1_tries 15 = .ok (.iload 5, 2) := dk_21 5 (dk_at dksX1_tries_0 15 rfl rfl)
theorem dX1_tries_17 : decode cX1_tries 17 = .ok (.aload_n 0, 1) := dk_42 (dk_at dksX1_tries_0 17 rfl rfl)
theorem dX1_tries_18 : decode cX1_tries 18 = .ok (.getfield 429, 3) := dk_180 1 173 (dk_at dksX1_tries_0 18 rfl rfl)
theorem dX1_tries_21 : decode cX1_tries 21 = .ok (.if_icmp .ne 13, 3) := dk_160 0 13 (dk_at dksX1_tries_0 21 rfl rfl)
theorem dX1_tries_24 : decode cX1_tries 24 = .ok (.iload 6, 2) := dk_21 6 (dk_at dksX1_tries_1 0 rfl rfl)
theorem dX1_tries_26 : decode cX1_tries 26 = .ok (.aload_n 0, 1) := dk_42 (dk_at dksX1_tries_1 2 rfl rfl)
theorem dX1_tries_27 : decode cX1_tries 27 = .ok (.getfield 432, 3) := dk_180 1 176 (dk_at dksX1_tries_1 3 rfl rfl)
theorem dX1_tries_30 : decode cX1_tries 30 = .ok (.if_icmp .le 4, 3) := dk_164 0 4 (dk_at dksX1_tries_1 6 rfl rfl)
theorem dX1_tries_33 : decode cX1_tries 33 = .ok (.return_, 1) := dk_177 (dk_at dksX1_tries_1 9 rfl rfl)
theorem dX1_tries_34 : decode cX1_tries 34 = .ok (.aload_n 0, 1) := dk_42 (dk_at dksX1_tries_1 10 rfl rfl)
theorem dX1_tries_35 : decode cX1_tries 35 = .ok (.iload 5, 2) := dk_21 5 (dk_at dksX1_tries_1 11 rfl rfl)
theorem dX1_tries_37 : decode cX1_tries 37 = .ok (.putfield 429, 3) := dk_181 1 173 (dk_at dksX1_tries_1 13 rfl rfl)
theorem dX1_tries_40 : decode cX1_tries 40 = .ok (.aload_n 0, 1) := dk_42 (dk_at dksX1_tries_1 16 rfl rfl)
theorem dX1_tries_41 : decode cX1_tries 41 = .ok (.iload 6, 2) := dk_21 6 (dk_at dksX1_tries_1 17 rfl rfl)
theorem dX1_tries_43 : decode cX1_tries 43 = .ok (.putfield 432, 3) := dk_181 1 176 (dk_at dksX1_tries_1 19 rfl rfl)
theorem dX1_tries_46 : decode cX1_tries 46 = .ok (.return_, 1) := dk_177 (dk_at dksX1_tries_1 22 rfl rfl)
theorem dX1_tries_47 : decode cX1_tries 47 = .ok (.iload_n 1, 1) := dk_27 (dk_at dksX1_tries_1 23 rfl rfl)
theorem dX1_tries_48 : decode cX1_tries 48 = .ok (.iload_n 2, 1) := dk_28 (dk_at dksX1_tries_2 0 rfl rfl)
theorem dX1_tries_49 : decode cX1_tries 49 = .ok (.iadd, 1) := dk_96 (dk_at dksX1_tries_2 1 rfl rfl)
theorem dX1_tries_50 : decode cX1_tries 50 = .ok (.istore 7, 2) := dk_54 7 (dk_at dksX1_tries_2 2 rfl rfl)
theorem dX1_tries_52 : decode cX1_tries 52 = .ok (.iload 7, 2) := dk_21 7 (dk_at dksX1_tries_2 4 rfl rfl)
theorem dX1_tries_54 : decode cX1_tries 54 = .ok (.iconst 1, 1) := dk_4 (dk_at dksX1_tries_2 6 rfl rfl)
theorem dX1_tries_55 : decode cX1_tries 55 = .ok (.iadd, 1) := dk_96 (dk_at dksX1_tries_2 7 rfl rfl)
theorem dX1_tries_56 : decode cX1_tries 56 = .ok (.iconst 2, 1) := dk_5 (dk_at dksX1_tries_2 8 rfl rfl)
theorem dX1_tries_57 : decode cX1_tries 57 = .ok (.idiv, 1) := dk_108 (dk_at dksX1_tries_2 9 rfl rfl)
theorem dX1_tries_58 : decode cX1_tries 58 = .ok (.istore 8, 2) := dk_54 8 (dk_at dksX1_tries_2 10 rfl rfl)
theorem dX1_tries_60 : decode cX1_tries 60 = .ok (.iload_n 1, 1) := dk_27 (dk_at dksX1_tries_2 12 rfl rfl)
theorem dX1_tries_61 : decode cX1_tries 61 = .ok (.ifCond .ne 7, 3) := dk_154 0 7 (dk_at dksX1_tries_2 13 rfl rfl)
theorem dX1_tries_64 : decode cX1_tries 64 = .ok (.iconst 1, 1) := dk_4 (dk_at dksX1_tries_2 16 rfl rfl)
theorem dX1_tries_65 : decode cX1_tries 65 = .ok (.goto 4, 3) := dk_167 0 4 (dk_at dksX1_tries_2 17 rfl rfl)
theorem dX1_tries_68 : decode cX1_tries 68 = .ok (.iconst 0, 1) := dk_3 (dk_at dksX1_tries_2 20 rfl rfl)
theorem dX1_tries_69 : decode cX1_tries 69 = .ok (.istore 9, 2) := dk_54 9 (dk_at dksX1_tries_2 21 rfl rfl)
theorem dX1_tries_71 : decode cX1_tries 71 = .ok (.aload_n 0, 1) := dk_42 (dk_at dksX1_tries_2 23 rfl rfl)
theorem dX1_tries_72 : decode cX1_tries 72 = .ok (.iload 9, 2) := dk_21 9 (dk_at dksX1_tries_3 0 rfl rfl)
theorem dX1_tries_74 : decode cX1_tries 74 = .ok (.ifCond .eq 8, 3) := dk_153 0 8 (dk_at dksX1_tries_3 2 rfl rfl)
theorem dX1_tries_77 : decode cX1_tries 77 = .ok (.iload 8, 2) := dk_21 8 (dk_at dksX1_tries_3 5 rfl rfl)
theorem dX1_tries_79 : decode cX1_tries 79 = .ok (.goto 4, 3) := dk_167 0 4 (dk_at dksX1_tries_3 7 rfl rfl)
theorem dX1_tries_82 : decode cX1_tries 82 = .ok (.iload_n 1, 1) := dk_27 (dk_at dksX1_tries_3 10 rfl rfl)
theorem dX1_tries_83 : decode cX1_tries 83 = .ok (.iconst 1, 1) := dk_4 (dk_at dksX1_tries_3 11 rfl rfl)
theorem dX1_tries_84 : decode cX1_tries 84 = .ok (.isub, 1) := dk_100 (dk_at dksX1_tries_3 12 rfl rfl)
theorem dX1_tries_85 : decode cX1_tries 85 = .ok (.iload 9, 2) := dk_21 9 (dk_at dksX1_tries_3 13 rfl rfl)
theorem dX1_tries_87 : decode cX1_tries 87 = .ok (.ifCond .eq 11, 3) := dk_153 0 11 (dk_at dksX1_tries_3 15 rfl rfl)
theorem dX1_tries_90 : decode cX1_tries 90 = .ok (.iload 7, 2) := dk_21 7 (dk_at dksX1_tries_3 18 rfl rfl)
theorem dX1_tries_92 : decode cX1_tries 92 = .ok (.iload 8, 2) := dk_21 8 (dk_at dksX1_tries_3 20 rfl rfl)
theorem dX1_tries_94 : decode cX1_tries 94 = .ok (.isub, 1) := dk_100 (dk_at dksX1_tries_3 22 rfl rfl)
theorem dX1_tries_95 : decode cX1_tries 95 = .ok (.goto 4, 3) := dk_167 0 4 (dk_at dksX1_tries_4 0 rfl rfl)
theorem dX1_tries_98 : decode cX1_tries 98 = .ok (.iload_n 2, 1) := dk_28 (dk_at dksX1_tries_4 3 rfl rfl)
theorem dX1_tries_99 : decode cX1_tries 99 = .ok (.iload_n 3, 1) := dk_29 (dk_at dksX1_tries_4 4 rfl rfl)
theorem dX1_tries_100 : decode cX1_tries 100 = .ok (.iconst 1, 1) := dk_4 (dk_at dksX1_tries_4 5 rfl rfl)
theorem dX1_tries_101 : decode cX1_tries 101 = .ok (.iadd, 1) := dk_96 (dk_at dksX1_tries_4 6 rfl rfl)
theorem dX1_tries_102 : decode cX1_tries 102 = .ok (.iload 4, 2) := dk_21 4 (dk_at dksX1_tries_4 7 rfl rfl)
theorem dX1_tries_104 : decode cX1_tries 104 = .ok (.iload 5, 2) := dk_21 5 (dk_at dksX1_tries_4 9 rfl rfl)
theorem dX1_tries_106 : decode cX1_tries 106 = .ok (.iload 9, 2) := dk_21 9 (dk_at dksX1_tries_4 11 rfl rfl)
theorem dX1_tries_108 : decode cX1_tries 108 = .ok (.ifCond .eq 8, 3) := dk_153 0 8 (dk_at dksX1_tries_4 13 rfl rfl)
theorem dX1_tries_111 : decode cX1_tries 111 = .ok (.iload 7, 2) := dk_21 7 (dk_at dksX1_tries_4 16 rfl rfl)
theorem dX1_tries_113 : decode cX1_tries 113 = .ok (.goto 4, 3) := dk_167 0 4 (dk_at dksX1_tries_4 18 rfl rfl)
theorem dX1_tries_116 : decode cX1_tries 116 = .ok (.iconst 0, 1) := dk_3 (dk_at dksX1_tries_4 21 rfl rfl)
theorem dX1_tries_117 : decode cX1_tries 117 = .ok (.iadd, 1) := dk_96 (dk_at dksX1_tries_4 22 rfl rfl)
theorem dX1_tries_118 : decode cX1_tries 118 = .ok (.iload 6, 2) := dk_21 6 (dk_at dksX1_tries_5 0 rfl rfl)
theorem dX1_tries_120 : decode cX1_tries 120 = .ok (.invokevirtual 435, 3) := dk_182 1 179 (dk_at dksX1_tries_5 2 rfl rfl)
theorem dX1_tries_123 : decode cX1_tries 123 = .ok (.iload_n 2, 1) := dk_28 (dk_at dksX1_tries_5 5 rfl rfl)
theorem dX1_tries_124 : decode cX1_tries 124 = .ok (.ifCond .ne 7, 3) := dk_154 0 7 (dk_at dksX1_tries_5 6 rfl rfl)
theorem dX1_tries_127 : decode cX1_tries 127 = .ok (.iconst 1, 1) := dk_4 (dk_at dksX1_tries_5 9 rfl rfl)
theorem dX1_tries_128 : decode cX1_tries 128 = .ok (.goto 4, 3) := dk_167 0 4 (dk_at dksX1_tries_5 10 rfl rfl)
theorem dX1_tries_131 : decode cX1_tries 131 = .ok (.iconst 0, 1) := dk_3 (dk_at dksX1_tries_5 13 rfl rfl)
theorem dX1_tries_132 : decode cX1_tries 132 = .ok (.istore 9, 2) := dk_54 9 (dk_at dksX1_tries_5 14 rfl rfl)
theorem dX1_tries_134 : decode cX1_tries 134 = .ok (.aload_n 0, 1) := dk_42 (dk_at dksX1_tries_5 16 rfl rfl)
theorem dX1_tries_135 : decode cX1_tries 135 = .ok (.iload 9, 2) := dk_21 9 (dk_at dksX1_tries_5 17 rfl rfl)
theorem dX1_tries_137 : decode cX1_tries 137 = .ok (.ifCond .eq 11, 3) := dk_153 0 11 (dk_at dksX1_tries_5 19 rfl rfl)
theorem dX1_tries_140 : decode cX1_tries 140 = .ok (.iload 7, 2) := dk_21 7 (dk_at dksX1_tries_5 22 rfl rfl)
theorem dX1_tries_142 : decode cX1_tries 142 = .ok (.iload 8, 2) := dk_21 8 (dk_at dksX1_tries_6 0 rfl rfl)
theorem dX1_tries_144 : decode cX1_tries 144 = .ok (.isub, 1) := dk_100 (dk_at dksX1_tries_6 2 rfl rfl)
theorem dX1_tries_145 : decode cX1_tries 145 = .ok (.goto 4, 3) := dk_167 0 4 (dk_at dksX1_tries_6 3 rfl rfl)
theorem dX1_tries_148 : decode cX1_tries 148 = .ok (.iload_n 1, 1) := dk_27 (dk_at dksX1_tries_6 6 rfl rfl)
theorem dX1_tries_149 : decode cX1_tries 149 = .ok (.iload 9, 2) := dk_21 9 (dk_at dksX1_tries_6 7 rfl rfl)
theorem dX1_tries_151 : decode cX1_tries 151 = .ok (.ifCond .eq 8, 3) := dk_153 0 8 (dk_at dksX1_tries_6 9 rfl rfl)
theorem dX1_tries_154 : decode cX1_tries 154 = .ok (.iload 8, 2) := dk_21 8 (dk_at dksX1_tries_6 12 rfl rfl)
theorem dX1_tries_156 : decode cX1_tries 156 = .ok (.goto 4, 3) := dk_167 0 4 (dk_at dksX1_tries_6 14 rfl rfl)
theorem dX1_tries_159 : decode cX1_tries 159 = .ok (.iload_n 2, 1) := dk_28 (dk_at dksX1_tries_6 17 rfl rfl)
theorem dX1_tries_160 : decode cX1_tries 160 = .ok (.iconst 1, 1) := dk_4 (dk_at dksX1_tries_6 18 rfl rfl)
theorem dX1_tries_161 : decode cX1_tries 161 = .ok (.isub, 1) := dk_100 (dk_at dksX1_tries_6 19 rfl rfl)
theorem dX1_tries_162 : decode cX1_tries 162 = .ok (.iload_n 3, 1) := dk_29 (dk_at dksX1_tries_6 20 rfl rfl)
theorem dX1_tries_163 : decode cX1_tries 163 = .ok (.iconst 1, 1) := dk_4 (dk_at dksX1_tries_6 21 rfl rfl)
theorem dX1_tries_164 : decode cX1_tries 164 = .ok (.iadd, 1) := dk_96 (dk_at dksX1_tries_6 22 rfl rfl)
theorem dX1_tries_165 : decode cX1_tries 165 = .ok (.iload 4, 2) := dk_21 4 (dk_at dksX1_tries_7 0 rfl rfl)
theorem dX1_tries_167 : decode cX1_tries 167 = .ok (.iload 5, 2) := dk_21 5 (dk_at dksX1_tries_7 2 rfl rfl)
theorem dX1_tries_169 : decode cX1_tries 169 = .ok (.iload 9, 2) := dk_21 9 (dk_at dksX1_tries_7 4 rfl rfl)
theorem dX1_tries_171 : decode cX1_tries 171 = .ok (.ifCond .eq 8, 3) := dk_153 0 8 (dk_at dksX1_tries_7 6 rfl rfl)
theorem dX1_tries_174 : decode cX1_tries 174 = .ok (.iload 7, 2) := dk_21 7 (dk_at dksX1_tries_7 9 rfl rfl)
theorem dX1_tries_176 : decode cX1_tries 176 = .ok (.goto 4, 3) := dk_167 0 4 (dk_at dksX1_tries_7 11 rfl rfl)
theorem dX1_tries_179 : decode cX1_tries 179 = .ok (.iconst 0, 1) := dk_3 (dk_at dksX1_tries_7 14 rfl rfl)
theorem dX1_tries_180 : decode cX1_tries 180 = .ok (.iadd, 1) := dk_96 (dk_at dksX1_tries_7 15 rfl rfl)
theorem dX1_tries_181 : decode cX1_tries 181 = .ok (.iload 6, 2) := dk_21 6 (dk_at dksX1_tries_7 16 rfl rfl)
theorem dX1_tries_183 : decode cX1_tries 183 = .ok (.iconst 1, 1) := dk_4 (dk_at dksX1_tries_7 18 rfl rfl)
theorem dX1_tries_184 : decode cX1_tries 184 = .ok (.iload_n 3, 1) := dk_29 (dk_at dksX1_tries_7 19 rfl rfl)
theorem dX1_tries_185 : decode cX1_tries 185 = .ok (.ishl, 1) := dk_120 (dk_at dksX1_tries_7 20 rfl rfl)
theorem dX1_tries_186 : decode cX1_tries 186 = .ok (.ior, 1) := dk_128 (dk_at dksX1_tries_7 21 rfl rfl)
theorem dX1_tries_187 : decode cX1_tries 187 = .ok (.invokevirtual 435, 3) := dk_182 1 179 (dk_at dksX1_tries_8 0 rfl rfl)
theorem dX1_tries_190 : decode cX1_tries 190 = .ok (.return_, 1) := dk_177 (dk_at dksX1_tries_8 3 rfl rfl)
def dkwX1_count_4 : List UInt8 := [180, 1, 146, 172, 42, 180, 0, 199, 172, 42, 180, 0, 206, 172, 2, 172]
abbrev dktX1_count_4 : List UInt8 := dkwX1_count_4 ++ []
def dkwX1_count_3 : List UInt8 := [42, 180, 0, 92, 172, 42, 180, 0, 19, 172, 42, 180, 0, 113, 172, 42, 180, 1, 59, 136, 172, 42]
abbrev dktX1_count_3 : List UInt8 := dkwX1_count_3 ++ dktX1_count_4
def dkwX1_count_2 : List UInt8 := [170, 0, 0, 0, 0, 78, 0, 0, 0, 4, 0, 0, 0, 10, 0, 0, 0, 42, 0, 0, 0, 47, 0, 0, 0, 52, 0, 0, 0, 57, 0, 0, 0, 63, 0, 0, 0, 68, 0, 0, 0, 73]
abbrev dktX1_count_2 : List UInt8 := dkwX1_count_2 ++ dktX1_count_3
def dkwX1_count_1 : List UInt8 := [192, 0, 157, 182, 1, 54, 172, 27]
abbrev dktX1_count_1 : List UInt8 := dkwX1_count_1 ++ dktX1_count_2
def dkwX1_count_0 : List UInt8 := [27, 133, 9, 20, 0, 209, 184, 0, 5, 153, 0, 20, 42, 180, 0, 162, 27, 185, 1, 51, 2, 0]
abbrev dktX1_count_0 : List UInt8 := dkwX1_count_0 ++ dktX1_count_1
theorem dksX1_count_0 : cX1_count.data.toList.drop 0 = dktX1_count_0 := by decide +kernel
theorem dksX1_count_1 : cX1_count.data.toList.drop 22 = dktX1_count_1 := dk_seg dksX1_count_0 22 rfl rfl
theorem dksX1_count_2 : cX1_count.data.toList.drop 30 = dktX1_count_2 := dk_seg dksX1_count_1 8 rfl rfl
theorem dksX1_count_3 : cX1_count.data.toList.drop 72 = dktX1_count_3 := dk_seg dksX1_count_2 42 rfl rfl
theorem dksX1_count_4 : cX1_count.data.toList.drop 94 = dktX1_count_4 := dk_seg dksX1_count_3 22 rfl rfl
theorem dX1_count_0 : decode cX1_count 0 = .ok (.iload_n 1, 1) := dk_27 (dk_at dksX1_count_0 0 rfl rfl)
theorem dX1_count_1 : decode cX1_count 1 = .ok (.i2l, 1) := dk_133 (dk_at dksX1_count_0 1 rfl rfl)
theorem dX1_count_2 : decode cX1_count 2 = .ok (.lconst 0, 1) := dk_9 (dk_at dksX1_count_0 2 rfl rfl)
theorem dX1_count_3 : decode cX1_count 3 = .ok (.ldc2_w 209, 3) := dk_20 0 209 (dk_at dksX1_count_0 3 rfl rfl)
theorem dX1_count_6 : decode cX1_count 6 = .ok (.invokestatic 5, 3) := dk_184 0 5 (dk_at dksX1_count_0 6 rfl rfl)
theorem dX1_count_9 : decode cX1_count 9 = .ok (.ifCond .eq 20, 3) := dk_153 0 20 (dk_at dksX1_count_0 9 rfl rfl)
theorem dX1_count_12 : decode cX1_count 12 = .ok (.aload_n 0, 1) := dk_42 (dk_at dksX1_count_0 12 rfl rfl)
theorem dX1_count_13 : decode cX1_count 13 = .ok (.getfield 162, 3) := dk_180 0 162 (dk_at dksX1_count_0 13 rfl rfl)
theorem dX1_count_16 : decode cX1_count 16 = .ok (.iload_n 1, 1) := dk_27 (dk_at dksX1_count_0 16 rfl rfl)
theorem dX1_count_17 : decode cX1_count 17 = .ok (.invokeinterface 307 2, 5) := by decide +kernel
theorem dX1_count_22 : decode cX1_count 22 = .ok (.checkcast 157, 3) := dk_192 0 157 (dk_at dksX1_count_1 0 rfl rfl)
theorem dX1_count_25 : decode cX1_count 25 = .ok (.invokevirtual 310, 3) := dk_182 1 54 (dk_at dksX1_count_1 3 rfl rfl)
theorem dX1_count_28 : decode cX1_count 28 = .ok (.ireturn, 1) := dk_172 (dk_at dksX1_count_1 6 rfl rfl)
theorem dX1_count_29 : decode cX1_count 29 = .ok (.iload_n 1, 1) := dk_27 (dk_at dksX1_count_1 7 rfl rfl)
theorem dX1_count_30 : decode cX1_count 30 = .ok (.tableswitch 78 4 10 #[42, 47, 52, 57, 63, 68, 73], 42) := by decide +kernel
theorem dX1_count_72 : decode cX1_count 72 = .ok (.aload_n 0, 1) := dk_42 (dk_at dksX1_count_3 0 rfl rfl)
theorem dX1_count_73 : decode cX1_count 73 = .ok (.getfield 92, 3) := dk_180 0 92 (dk_at dksX1_count_3 1 rfl rfl)
theorem dX1_count_76 : decode cX1_count 76 = .ok (.ireturn, 1) := dk_172 (dk_at dksX1_count_3 4 rfl rfl)
theorem dX1_count_77 : decode cX1_count 77 = .ok (.aload_n 0, 1) := dk_42 (dk_at dksX1_count_3 5 rfl rfl)
theorem dX1_count_78 : decode cX1_count 78 = .ok (.getfield 19, 3) := dk_180 0 19 (dk_at dksX1_count_3 6 rfl rfl)
theorem dX1_count_81 : decode cX1_count 81 = .ok (.ireturn, 1) := dk_172 (dk_at dksX1_count_3 9 rfl rfl)
theorem dX1_count_82 : decode cX1_count 82 = .ok (.aload_n 0, 1) := dk_42 (dk_at dksX1_count_3 10 rfl rfl)
theorem dX1_count_83 : decode cX1_count 83 = .ok (.getfield 113, 3) := dk_180 0 113 (dk_at dksX1_count_3 11 rfl rfl)
theorem dX1_count_86 : decode cX1_count 86 = .ok (.ireturn, 1) := dk_172 (dk_at dksX1_count_3 14 rfl rfl)
theorem dX1_count_87 : decode cX1_count 87 = .ok (.aload_n 0, 1) := dk_42 (dk_at dksX1_count_3 15 rfl rfl)
theorem dX1_count_88 : decode cX1_count 88 = .ok (.getfield 315, 3) := dk_180 1 59 (dk_at dksX1_count_3 16 rfl rfl)
theorem dX1_count_91 : decode cX1_count 91 = .ok (.l2i, 1) := dk_136 (dk_at dksX1_count_3 19 rfl rfl)
theorem dX1_count_92 : decode cX1_count 92 = .ok (.ireturn, 1) := dk_172 (dk_at dksX1_count_3 20 rfl rfl)
theorem dX1_count_93 : decode cX1_count 93 = .ok (.aload_n 0, 1) := dk_42 (dk_at dksX1_count_3 21 rfl rfl)
theorem dX1_count_94 : decode cX1_count 94 = .ok (.getfield 402, 3) := dk_180 1 146 (dk_at dksX1_count_4 0 rfl rfl)
theorem dX1_count_97 : decode cX1_count 97 = .ok (.ireturn, 1) := dk_172 (dk_at dksX1_count_4 3 rfl rfl)
theorem dX1_count_98 : decode cX1_count 98 = .ok (.aload_n 0, 1) := dk_42 (dk_at dksX1_count_4 4 rfl rfl)
theorem dX1_count_99 : decode cX1_count 99 = .ok (.getfield 199, 3) := dk_180 0 199 (dk_at dksX1_count_4 5 rfl rfl)
theorem dX1_count_102 : decode cX1_count 102 = .ok (.ireturn, 1) := dk_172 (dk_at dksX1_count_4 8 rfl rfl)
theorem dX1_count_103 : decode cX1_count 103 = .ok (.aload_n 0, 1) := dk_42 (dk_at dksX1_count_4 9 rfl rfl)
theorem dX1_count_104 : decode cX1_count 104 = .ok (.getfield 206, 3) := dk_180 0 206 (dk_at dksX1_count_4 10 rfl rfl)
theorem dX1_count_107 : decode cX1_count 107 = .ok (.ireturn, 1) := dk_172 (dk_at dksX1_count_4 13 rfl rfl)
theorem dX1_count_108 : decode cX1_count 108 = .ok (.iconst (-1), 1) := dk_2 (dk_at dksX1_count_4 14 rfl rfl)
theorem dX1_count_109 : decode cX1_count 109 = .ok (.ireturn, 1) := dk_172 (dk_at dksX1_count_4 15 rfl rfl)
def dkwX1_item_6 : List UInt8 := [182, 0, 202, 42, 25, 6, 182, 1, 29, 25, 6, 180, 1, 136, 172]
abbrev dktX1_item_6 : List UInt8 := dkwX1_item_6 ++ []
def dkwX1_item_5 : List UInt8 := [58, 6, 132, 7, 1, 167, 255, 239, 42, 3, 181, 0, 199, 42, 21, 4, 133, 182, 0, 202, 42, 21, 5, 133]
abbrev dktX1_item_5 : List UInt8 := dkwX1_item_5 ++ dktX1_item_6
def dkwX1_item_4 : List UInt8 := [180, 1, 126, 21, 4, 50, 58, 6, 3, 54, 7, 21, 7, 21, 5, 162, 0, 16, 25, 6, 180, 1, 130]
abbrev dktX1_item_4 : List UInt8 := dkwX1_item_4 ++ dktX1_item_5
def dkwX1_item_3 : List UInt8 := [4, 54, 4, 21, 4, 154, 0, 7, 28, 167, 0, 11, 45, 182, 1, 54, 4, 100, 28, 100, 54, 5, 45]
abbrev dktX1_item_3 : List UInt8 := dkwX1_item_3 ++ dktX1_item_4
def dkwX1_item_2 : List UInt8 := [27, 185, 1, 51, 2, 0, 192, 0, 157, 78, 28, 45, 180, 0, 225, 3, 46, 162, 0, 7, 3, 167, 0, 4]
abbrev dktX1_item_2 : List UInt8 := dkwX1_item_2 ++ dktX1_item_3
def dkwX1_item_1 : List UInt8 := [182, 1, 54, 4, 100, 133, 184, 0, 5, 154, 0, 11, 187, 1, 123, 89, 183, 1, 125, 191, 42, 180, 0, 162]
abbrev dktX1_item_1 : List UInt8 := dkwX1_item_1 ++ dktX1_item_2
def dkwX1_item_0 : List UInt8 := [27, 184, 1, 45, 153, 0, 31, 28, 133, 9, 42, 180, 0, 162, 27, 185, 1, 51, 2, 0, 192, 0, 157]
abbrev dktX1_item_0 : List UInt8 := dkwX1_item_0 ++ dktX1_item_1
theorem dksX1_item_0 : cX1_item.data.toList.drop 0 = dktX1_item_0 := by decide +kernel
theorem dksX1_item_1 : cX1_item.data.toList.drop 23 = dktX1_item_1 := dk_seg dksX1_item_0 23 rfl rfl
theorem dksX1_item_2 : cX1_item.data.toList.drop 47 = dktX1_item_2 := dk_seg dksX1_item_1 24 rfl rfl
theorem dksX1_item_3 : cX1_item.data.toList.drop 71 = dktX1_item_3 := dk_seg dksX1_item_2 24 rfl rfl
theorem dksX1_item_4 : cX1_item.data.toList.drop 94 = dktX1_item_4 := dk_seg dksX1_item_3 23 rfl rfl
theorem dksX1_item_5 : cX1_item.data.toList.drop 117 = dktX1_item_5 := dk_seg dksX1_item_4 23 rfl rfl
theorem dksX1_item_6 : cX1_item.data.toList.drop 141 = dktX1_item_6 := dk_seg dksX1_item_5 24 rfl rfl
theorem dX1_item_0 : decode cX1_item 0 = .ok (.iload_n 1, 1) := dk_27 (dk_at dksX1_item_0 0 rfl rfl)
theorem dX1_item_1 : decode cX1_item 1 = .ok (.invokestatic 301, 3) := dk_184 1 45 (dk_at dksX1_item_0 1 rfl rfl)
theorem dX1_item_4 : decode cX1_item 4 = .ok (.ifCond .eq 31, 3) := dk_153 0 31 (dk_at dksX1_item_0 4 rfl rfl)
theorem dX1_item_7 : decode cX1_item 7 = .ok (.iload_n 2, 1) := dk_28 (dk_at dksX1_item_0 7 rfl rfl)
theorem dX1_item_8 : decode cX1_item 8 = .ok (.i2l, 1) := dk_133 (dk_at dksX1_item_0 8 rfl rfl)
theorem dX1_item_9 : decode cX1_item 9 = .ok (.lconst 0, 1) := dk_9 (dk_at dksX1_item_0 9 rfl rfl)
theorem dX1_item_10 : decode cX1_item 10 = .ok (.aload_n 0, 1) := dk_42 (dk_at dksX1_item_0 10 rfl rfl)
theorem dX1_item_11 : decode cX1_item 11 = .ok (.getfield 162, 3) := dk_180 0 162 (dk_at dksX1_item_0 11 rfl rfl)
theorem dX1_item_14 : decode cX1_item 14 = .ok (.iload_n 1, 1) := dk_27 (dk_at dksX1_item_0 14 rfl rfl)
theorem dX1_item_15 : decode cX1_item 15 = .ok (.invokeinterface 307 2, 5) := by decide +kernel
theorem dX1_item_20 : decode cX1_item 20 = .ok (.checkcast 157, 3) := dk_192 0 157 (dk_at dksX1_item_0 20 rfl rfl)
theorem dX1_item_23 : decode cX1_item 23 = .ok (.invokevirtual 310, 3) := dk_182 1 54 (dk_at dksX1_item_1 0 rfl rfl)
theorem dX1_item_26 : decode cX1_item 26 = .ok (.iconst 1, 1) := dk_4 (dk_at dksX1_item_1 3 rfl rfl)
theorem dX1_item_27 : decode cX1_item 27 = .ok (.isub, 1) := dk_100 (dk_at dksX1_item_1 4 rfl rfl)
theorem dX1_item_28 : decode cX1_item 28 = .ok (.i2l, 1) := dk_133 (dk_at dksX1_item_1 5 rfl rfl)
theorem dX1_item_29 : decode cX1_item 29 = .ok (.invokestatic 5, 3) := dk_184 0 5 (dk_at dksX1_item_1 6 rfl rfl)
theorem dX1_item_32 : decode cX1_item 32 = .ok (.ifCond .ne 11, 3) := dk_154 0 11 (dk_at dksX1_item_1 9 rfl rfl)
theorem dX1_item_35 : decode cX1_item 35 = .ok (.new 379, 3) := dk_187 1 123 (dk_at dksX1_item_1 12 rfl rfl)
theorem dX1_item_38 : decode cX1_item 38 = .ok (.dup, 1) := dk_89 (dk_at dksX1_item_1 15 rfl rfl)
theorem dX1_item_39 : decode cX1_item 39 = .ok (.invokespecial 381, 3) := dk_183 1 125 (dk_at dksX1_item_1 16 rfl rfl)
theorem dX1_item_42 : decode cX1_item 42 = .ok (.athrow, 1) := dk_191 (dk_at dksX1_item_1 19 rfl rfl)
theorem dX1_item_43 : decode cX1_item 43 = .ok (.aload_n 0, 1) := dk_42 (dk_at dksX1_item_1 20 rfl rfl)
theorem dX1_item_44 : decode cX1_item 44 = .ok (.getfield 162, 3) := dk_180 0 162 (dk_at dksX1_item_1 21 rfl rfl)
theorem dX1_item_47 : decode cX1_item 47 = .ok (.iload_n 1, 1) := dk_27 (dk_at dksX1_item_2 0 rfl rfl)
theorem dX1_item_48 : decode cX1_item 48 = .ok (.invokeinterface 307 2, 5) := by decide +kernel
theorem dX1_item_53 : decode cX1_item 53 = .ok (.checkcast 157, 3) := dk_192 0 157 (dk_at dksX1_item_2 6 rfl rfl)
theorem dX1_item_56 : decode cX1_item 56 = .ok (.astore_n 3, 1) := dk_78 (dk_at dksX1_item_2 9 rfl rfl)
theorem dX1_item_57 : decode cX1_item 57 = .ok (.iload_n 2, 1) := dk_28 (dk_at dksX1_item_2 10 rfl rfl)
theorem dX1_item_58 : decode cX1_item 58 = .ok (.aload_n 3, 1) := dk_45 (dk_at dksX1_item_2 11 rfl rfl)
theorem dX1_item_59 : decode cX1_item 59 = .ok (.getfield 225, 3) := dk_180 0 225 (dk_at dksX1_item_2 12 rfl rfl)
theorem dX1_item_62 : decode cX1_item 62 = .ok (.iconst 0, 1) := dk_3 (dk_at dksX1_item_2 15 rfl rfl)
theorem dX1_item_63 : decode cX1_item 63 = .ok (.iaload, 1) := dk_46 (dk_at dksX1_item_2 16 rfl rfl)
theorem dX1_item_64 : decode cX1_item 64 = .ok (.if_icmp .ge 7, 3) := dk_162 0 7 (dk_at dksX1_item_2 17 rfl rfl)
theorem dX1_item_67 : decode cX1_item 67 = .ok (.iconst 0, 1) := dk_3 (dk_at dksX1_item_2 20 rfl rfl)
theorem dX1_item_68 : decode cX1_item 68 = .ok (.goto 4, 3) := dk_167 0 4 (dk_at dksX1_item_2 21 rfl rfl)
theorem dX1_item_71 : decode cX1_item 71 = .ok (.iconst 1, 1) := dk_4 (dk_at dksX1_item_3 0 rfl rfl)
theorem dX1_item_72 : decode cX1_item 72 = .ok (.istore 4, 2) := dk_54 4 (dk_at dksX1_item_3 1 rfl rfl)
theorem dX1_item_74 : decode cX1_item 74 = .ok (.iload 4, 2) := dk_21 4 (dk_at dksX1_item_3 3 rfl rfl)
theorem dX1_item_76 : decode cX1_item 76 = .ok (.ifCond .ne 7, 3) := dk_154 0 7 (dk_at dksX1_item_3 5 rfl rfl)
theorem dX1_item_79 : decode cX1_item 79 = .ok (.iload_n 2, 1) := dk_28 (dk_at dksX1_item_3 8 rfl rfl)
theorem dX1_item_80 : decode cX1_item 80 = .ok (.goto 11, 3) := dk_167 0 11 (dk_at dksX1_item_3 9 rfl rfl)
theorem dX1_item_83 : decode cX1_item 83 = .ok (.aload_n 3, 1) := dk_45 (dk_at dksX1_item_3 12 rfl rfl)
theorem dX1_item_84 : decode cX1_item 84 = .ok (.invokevirtual 310, 3) := dk_182 1 54 (dk_at dksX1_item_3 13 rfl rfl)
theorem dX1_item_87 : decode cX1_item 87 = .ok (.iconst 1, 1) := dk_4 (dk_at dksX1_item_3 16 rfl rfl)
theorem dX1_item_88 : decode cX1_item 88 = .ok (.isub, 1) := dk_100 (dk_at dksX1_item_3 17 rfl rfl)
theorem dX1_item_89 : decode cX1_item 89 = .ok (.iload_n 2, 1) := dk_28 (dk_at dksX1_item_3 18 rfl rfl)
theorem dX1_item_90 : decode cX1_item 90 = .ok (.isub, 1) := dk_100 (dk_at dksX1_item_3 19 rfl rfl)
theorem dX1_item_91 : decode cX1_item 91 = .ok (.istore 5, 2) := dk_54 5 (dk_at dksX1_item_3 20 rfl rfl)
theorem dX1_item_93 : decode cX1_item 93 = .ok (.aload_n 3, 1) := dk_45 (dk_at dksX1_item_3 22 rfl rfl)
theorem dX1_item_94 : decode cX1_item 94 = .ok (.getfield 382, 3) := dk_180 1 126 (dk_at dksX1_item_4 0 rfl rfl)
theorem dX1_item_97 : decode cX1_item 97 = .ok (.iload 4, 2) := dk_21 4 (dk_at dksX1_item_4 3 rfl rfl)
theorem dX1_item_99 : decode cX1_item 99 = .ok (.aaload, 1) := dk_50 (dk_at dksX1_item_4 5 rfl rfl)
theorem dX1_item_100 : decode cX1_item 100 = .ok (.astore 6, 2) := dk_58 6 (dk_at dksX1_item_4 6 rfl rfl)
theorem dX1_item_102 : decode cX1_item 102 = .ok (.iconst 0, 1) := dk_3 (dk_at dksX1_item_4 8 rfl rfl)
theorem dX1_item_103 : decode cX1_item 103 = .ok (.istore 7, 2) := dk_54 7 (dk_at dksX1_item_4 9 rfl rfl)
theorem dX1_item_105 : decode cX1_item 105 = .ok (.iload 7, 2) := dk_21 7 (dk_at dksX1_item_4 11 rfl rfl)
theorem dX1_item_107 : decode cX1_item 107 = .ok (.iload 5, 2) := dk_21 5 (dk_at dksX1_item_4 13 rfl rfl)
theorem dX1_item_109 : decode cX1_item 109 = .ok (.if_icmp .ge 16, 3) := dk_162 0 16 (dk_at dksX1_item_4 15 rfl rfl)
theorem dX1_item_112 : decode cX1_item 112 = .ok (.aload 6, 2) := dk_25 6 (dk_at dksX1_item_4 18 rfl rfl)
theorem dX1_item_114 : decode cX1_item 114 = .ok (.getfield 386, 3) := dk_180 1 130 (dk_at dksX1_item_4 20 rfl rfl)
theorem dX1_item_117 : decode cX1_item 117 = .ok (.astore 6, 2) := dk_58 6 (dk_at dksX1_item_5 0 rfl rfl)
theorem dX1_item_119 : decode cX1_item 119 = .ok (.iinc 7 1, 3) := dk_132 7 1 (dk_at dksX1_item_5 2 rfl rfl)
theorem dX1_item_122 : decode cX1_item 122 = .ok (.goto (-17), 3) := dk_167 255 239 (dk_at dksX1_item_5 5 rfl rfl)
theorem dX1_item_125 : decode cX1_item 125 = .ok (.aload_n 0, 1) := dk_42 (dk_at dksX1_item_5 8 rfl rfl)
theorem dX1_item_126 : decode cX1_item 126 = .ok (.iconst 0, 1) := dk_3 (dk_at dksX1_item_5 9 rfl rfl)
theorem dX1_item_127 : decode cX1_item 127 = .ok (.putfield 199, 3) := dk_181 0 199 (dk_at dksX1_item_5 10 rfl rfl)
theorem dX1_item_130 : decode cX1_item 130 = .ok (.aload_n 0, 1) := dk_42 (dk_at dksX1_item_5 13 rfl rfl)
theorem dX1_item_131 : decode cX1_item 131 = .ok (.iload 4, 2) := dk_21 4 (dk_at dksX1_item_5 14 rfl rfl)
theorem dX1_item_133 : decode cX1_item 133 = .ok (.i2l, 1) := dk_133 (dk_at dksX1_item_5 16 rfl rfl)
theorem dX1_item_134 : decode cX1_item 134 = .ok (.invokevirtual 202, 3) := dk_182 0 202 (dk_at dksX1_item_5 17 rfl rfl)
theorem dX1_item_137 : decode cX1_item 137 = .ok (.aload_n 0, 1) := dk_42 (dk_at dksX1_item_5 20 rfl rfl)
theorem dX1_item_138 : decode cX1_item 138 = .ok (.iload 5, 2) := dk_21 5 (dk_at dksX1_item_5 21 rfl rfl)
theorem dX1_item_140 : decode cX1_item 140 = .ok (.i2l, 1) := dk_133 (dk_at dksX1_item_5 23 rfl rfl)
theorem dX1_item_141 : decode cX1_item 141 = .ok (.invokevirtual 202, 3) := dk_182 0 202 (dk_at dksX1_item_6 0 rfl rfl)
theorem dX1_item_144 : decode cX1_item 144 = .ok (.aload_n 0, 1) := dk_42 (dk_at dksX1_item_6 3 rfl rfl)
theorem dX1_item_145 : decode cX1_item 145 = .ok (.aload 6, 2) := dk_25 6 (dk_at dksX1_item_6 4 rfl rfl)
theorem dX1_item_147 : decode cX1_item 147 = .ok (.invokevirtual 285, 3) := dk_182 1 29 (dk_at dksX1_item_6 6 rfl rfl)
theorem dX1_item_150 : decode cX1_item 150 = .ok (.aload 6, 2) := dk_25 6 (dk_at dksX1_item_6 9 rfl rfl)
theorem dX1_item_152 : decode cX1_item 152 = .ok (.getfield 392, 3) := dk_180 1 136 (dk_at dksX1_item_6 11 rfl rfl)
theorem dX1_item_155 : decode cX1_item 155 = .ok (.ireturn, 1) := dk_172 (dk_at dksX1_item_6 14 rfl rfl)
def dkwX1_row_1 : List UInt8 := [42, 180, 0, 180, 27, 47, 173]
abbrev dktX1_row_1 : List UInt8 := dkwX1_row_1 ++ []
def dkwX1_row_0 : List UInt8 := [27, 133, 9, 42, 180, 0, 199, 4, 100, 133, 184, 0, 5, 154, 0, 11, 187, 1, 123, 89, 183, 1, 125, 191]
abbrev dktX1_row_0 : List UInt8 := dkwX1_row_0 ++ dktX1_row_1
theorem dksX1_row_0 : cX1_row.data.toList.drop 0 = dktX1_row_0 := by decide +kernel
theorem dksX1_row_1 : cX1_row.data.toList.drop 24 = dktX1_row_1 := dk_seg dksX1_row_0 24 rfl rfl
theorem dX1_row_0 : decode cX1_row 0 = .ok (.iload_n 1, 1) := dk_27 (dk_at dksX1_row_0 0 rfl rfl)
theorem dX1_row_1 : decode cX1_row 1 = .ok (.i2l, 1) := dk_133 (dk_at dksX1_row_0 1 rfl rfl)
theorem dX1_row_2 : decode cX1_row 2 = .ok (.lconst 0, 1) := dk_9 (dk_at dksX1_row_0 2 rfl rfl)
theorem dX1_row_3 : decode cX1_row 3 = .ok (.aload_n 0, 1) := dk_42 (dk_at dksX1_row_0 3 rfl rfl)
theorem dX1_row_4 : decode cX1_row 4 = .ok (.getfield 199, 3) := dk_180 0 199 (dk_at dksX1_row_0 4 rfl rfl)
theorem dX1_row_7 : decode cX1_row 7 = .ok (.iconst 1, 1) := dk_4 (dk_at dksX1_row_0 7 rfl rfl)
theorem dX1_row_8 : decode cX1_row 8 = .ok (.isub, 1) := dk_100 (dk_at dksX1_row_0 8 rfl rfl)
theorem dX1_row_9 : decode cX1_row 9 = .ok (.i2l, 1) := dk_133 (dk_at dksX1_row_0 9 rfl rfl)
theorem dX1_row_10 : decode cX1_row 10 = .ok (.invokestatic 5, 3) := dk_184 0 5 (dk_at dksX1_row_0 10 rfl rfl)
theorem dX1_row_13 : decode cX1_row 13 = .ok (.ifCond .ne 11, 3) := dk_154 0 11 (dk_at dksX1_row_0 13 rfl rfl)
theorem dX1_row_16 : decode cX1_row 16 = .ok (.new 379, 3) := dk_187 1 123 (dk_at dksX1_row_0 16 rfl rfl)
theorem dX1_row_19 : decode cX1_row 19 = .ok (.dup, 1) := dk_89 (dk_at dksX1_row_0 19 rfl rfl)
theorem dX1_row_20 : decode cX1_row 20 = .ok (.invokespecial 381, 3) := dk_183 1 125 (dk_at dksX1_row_0 20 rfl rfl)
theorem dX1_row_23 : decode cX1_row 23 = .ok (.athrow, 1) := dk_191 (dk_at dksX1_row_0 23 rfl rfl)
theorem dX1_row_24 : decode cX1_row 24 = .ok (.aload_n 0, 1) := dk_42 (dk_at dksX1_row_1 0 rfl rfl)
theorem dX1_row_25 : decode cX1_row 25 = .ok (.getfield 180, 3) := dk_180 0 180 (dk_at dksX1_row_1 1 rfl rfl)
theorem dX1_row_28 : decode cX1_row 28 = .ok (.iload_n 1, 1) := dk_27 (dk_at dksX1_row_1 4 rfl rfl)
theorem dX1_row_29 : decode cX1_row 29 = .ok (.laload, 1) := dk_47 (dk_at dksX1_row_1 5 rfl rfl)
theorem dX1_row_30 : decode cX1_row 30 = .ok (.lreturn, 1) := dk_173 (dk_at dksX1_row_1 6 rfl rfl)
def dkwX2_is_0 : List UInt8 := [42, 31, 181, 0, 7, 42, 33, 181, 0, 13, 177]
abbrev dktX2_is_0 : List UInt8 := dkwX2_is_0 ++ []
theorem dksX2_is_0 : cX2_is.data.toList.drop 0 = dktX2_is_0 := by decide +kernel
theorem dX2_is_0 : decode cX2_is 0 = .ok (.aload_n 0, 1) := dk_42 (dk_at dksX2_is_0 0 rfl rfl)
theorem dX2_is_1 : decode cX2_is 1 = .ok (.lload_n 1, 1) := dk_31 (dk_at dksX2_is_0 1 rfl rfl)
theorem dX2_is_2 : decode cX2_is 2 = .ok (.putfield 7, 3) := dk_181 0 7 (dk_at dksX2_is_0 2 rfl rfl)
theorem dX2_is_5 : decode cX2_is 5 = .ok (.aload_n 0, 1) := dk_42 (dk_at dksX2_is_0 5 rfl rfl)
theorem dX2_is_6 : decode cX2_is 6 = .ok (.lload_n 3, 1) := dk_33 (dk_at dksX2_is_0 6 rfl rfl)
theorem dX2_is_7 : decode cX2_is 7 = .ok (.putfield 13, 3) := dk_181 0 13 (dk_at dksX2_is_0 7 rfl rfl)
theorem dX2_is_10 : decode cX2_is 10 = .ok (.return_, 1) := dk_177 (dk_at dksX2_is_0 10 rfl rfl)
theorem dX2_init_0 : decode cX2_init 0 = .ok (.aload_n 0, 1) := by decide +kernel
theorem dX2_init_1 : decode cX2_init 1 = .ok (.invokespecial 1, 3) := by decide +kernel
theorem dX2_init_4 : decode cX2_init 4 = .ok (.return_, 1) := by decide +kernel
def dkwX2_isLike_1 : List UInt8 := [4, 167, 0, 4, 3, 172]
abbrev dktX2_isLike_1 : List UInt8 := dkwX2_isLike_1 ++ []
def dkwX2_isLike_0 : List UInt8 := [42, 180, 0, 7, 43, 180, 0, 7, 148, 154, 0, 19, 42, 180, 0, 13, 43, 180, 0, 13, 148, 154, 0, 7]
abbrev dktX2_isLike_0 : List UInt8 := dkwX2_isLike_0 ++ dktX2_isLike_1
theorem dksX2_isLike_0 : cX2_isLike.data.toList.drop 0 = dktX2_isLike_0 := by decide +kernel
theorem dksX2_isLike_1 : cX2_isLike.data.toList.drop 24 = dktX2_isLike_1 := dk_seg dksX2_isLike_0 24 rfl rfl
theorem dX2_isLike_0 : decode cX2_isLike 0 = .ok (.aload_n 0, 1) := dk_42 (dk_at dksX2_isLike_0 0 rfl rfl)
theorem dX2_isLike_1 : decode cX2_isLike 1 = .ok (.getfield 7, 3) := dk_180 0 7 (dk_at dksX2_isLike_0 1 rfl rfl)
theorem dX2_isLike_4 : decode cX2_isLike 4 = .ok (.aload_n 1, 1) := dk_43 (dk_at dksX2_isLike_0 4 rfl rfl)
theorem dX2_isLike_5 : decode cX2_isLike 5 = .ok (.getfield 7, 3) := dk_180 0 7 (dk_at dksX2_isLike_0 5 rfl rfl)
theorem dX2_isLike_8 : decode cX2_isLike 8 = .ok (.lcmp, 1) := dk_148 (dk_at dksX2_isLike_0 8 rfl rfl)
theorem dX2_isLike_9 : decode cX2_isLike 9 = .ok (.ifCond .ne 19, 3) := dk_154 0 19 (dk_at dksX2_isLike_0 9 rfl rfl)
theorem dX2_isLike_12 : decode cX2_isLike 12 = .ok (.aload_n 0, 1) := dk_42 (dk_at dksX2_isLike_0 12 rfl rfl)
theorem dX2_isLike_13 : decode cX2_isLike 13 = .ok (.getfield 13, 3) := dk_180 0 13 (dk_at dksX2_isLike_0 13 rfl rfl)
theorem dX2_isLike_16 : decode cX2_isLike 16 = .ok (.aload_n 1, 1) := dk_43 (dk_at dksX2_isLike_0 16 rfl rfl)
theorem dX2_isLike_17 : decode cX2_isLike 17 = .ok (.getfield 13, 3) := dk_180 0 13 (dk_at dksX2_isLike_0 17 rfl rfl)
theorem dX2_isLike_20 : decode cX2_isLike 20 = .ok (.lcmp, 1) := dk_148 (dk_at dksX2_isLike_0 20 rfl rfl)
theorem dX2_isLike_21 : decode cX2_isLike 21 = .ok (.ifCond .ne 7, 3) := dk_154 0 7 (dk_at dksX2_isLike_0 21 rfl rfl)
theorem dX2_isLike_24 : decode cX2_isLike 24 = .ok (.iconst 1, 1) := dk_4 (dk_at dksX2_isLike_1 0 rfl rfl)
theorem dX2_isLike_25 : decode cX2_isLike 25 = .ok (.goto 4, 3) := dk_167 0 4 (dk_at dksX2_isLike_1 1 rfl rfl)
theorem dX2_isLike_28 : decode cX2_isLike 28 = .ok (.iconst 0, 1) := dk_3 (dk_at dksX2_isLike_1 4 rfl rfl)
theorem dX2_isLike_29 : decode cX2_isLike 29 = .ok (.ireturn, 1) := dk_172 (dk_at dksX2_isLike_1 5 rfl rfl)
def dkwX3_init_1 : List UInt8 := [177]
abbrev dktX3_init_1 : List UInt8 := dkwX3_init_1 ++ []
def dkwX3_init_0 : List UInt8 := [42, 43, 181, 0, 3, 42, 183, 0, 9, 42, 5, 189, 0, 15, 181, 0, 17, 42, 5, 188, 10, 181, 0, 21]
abbrev dktX3_init_0 : List UInt8 := dkwX3_init_0 ++ dktX3_init_1
theorem dksX3_init_0 : cX3_init.data.toList.drop 0 = dktX3_init_0 := by decide +kernel
theorem dksX3_init_1 : cX3_init.data.toList.drop 24 = dktX3_init_1 := dk_seg dksX3_init_0 24 rfl rfl
theorem dX3_init_0 : decode cX3_init 0 = .ok (.aload_n 0, 1) := dk_42 (dk_at dksX3_init_0 0 rfl rfl)
theorem dX3_init_1 : decode cX3_init 1 = .ok (.aload_n 1, 1) := dk_43 (dk_at dksX3_init_0 1 rfl rfl)
theorem dX3_init_2 : decode cX3_init 2 = .ok (.putfield 3, 3) := dk_181 0 3 (dk_at dksX3_init_0 2 rfl rfl)
theorem dX3_init_5 : decode cX3_init 5 = .ok (.aload_n 0, 1) := dk_42 (dk_at dksX3_init_0 5 rfl rfl)
theorem dX3_init_6 : decode cX3_init 6 = .ok (.invokespecial 9, 3) := dk_183 0 9 (dk_at dksX3_init_0 6 rfl rfl)
theorem dX3_init_9 : decode cX3_init 9 = .ok (.aload_n 0, 1) := dk_42 (dk_at dksX3_init_0 9 rfl rfl)
theorem dX3_init_10 : decode cX3_init 10 = .ok (.iconst 2, 1) := dk_5 (dk_at dksX3_init_0 10 rfl rfl)
theorem dX3_init_11 : decode cX3_init 11 = .ok (.anewarray 15, 3) := dk_189 0 15 (dk_at dksX3_init_0 11 rfl rfl)
theorem dX3_init_14 : decode cX3_init 14 = .ok (.putfield 17, 3) := dk_181 0 17 (dk_at dksX3_init_0 14 rfl rfl)
theorem dX3_init_17 : decode cX3_init 17 = .ok (.aload_n 0, 1) := dk_42 (dk_at dksX3_init_0 17 rfl rfl)
theorem dX3_init_18 : decode cX3_init 18 = .ok (.iconst 2, 1) := dk_5 (dk_at dksX3_init_0 18 rfl rfl)
theorem dX3_init_19 : decode cX3_init 19 = .ok (.newarray .int, 2) := dk_188_10 (dk_at dksX3_init_0 19 rfl rfl)
theorem dX3_init_21 : decode cX3_init 21 = .ok (.putfield 21, 3) := dk_181 0 21 (dk_at dksX3_init_0 21 rfl rfl)
theorem dX3_init_24 : decode cX3_init 24 = .ok (.return_, 1) := dk_177 (dk_at dksX3_init_1 0 rfl rfl)
def dkwX3_anew_1 : List UInt8 := [182, 0, 83, 177]
abbrev dktX3_anew_1 : List UInt8 := dkwX3_anew_1 ++ []
def dkwX3_anew_0 : List UInt8 := [42, 42, 180, 0, 3, 180, 0, 76, 182, 0, 79, 61, 42, 42, 180, 0, 3, 180, 0, 76, 3, 28, 27]
abbrev dktX3_anew_0 : List UInt8 := dkwX3_anew_0 ++ dktX3_anew_1
theorem dksX3_anew_0 : cX3_anew.data.toList.drop 0 = dktX3_anew_0 := by decide +kernel
theorem dksX3_anew_1 : cX3_anew.data.toList.drop 23 = dktX3_anew_1 := dk_seg dksX3_anew_0 23 rfl rfl
theorem dX3_anew_0 : decode cX3_anew 0 = .ok (.aload_n 0, 1) := dk_42 (dk_at dksX3_anew_0 0 rfl rfl)
theorem dX3_anew_1 : decode cX3_anew 1 = .ok (.aload_n 0, 1) := dk_42 (dk_at dksX3_anew_0 1 rfl rfl)
theorem dX3_anew_2 : decode cX3_anew 2 = .ok (.getfield 3, 3) := dk_180 0 3 (dk_at dksX3_anew_0 2 rfl rfl)
theorem dX3_anew_5 : decode cX3_anew 5 = .ok (.getfield 76, 3) := dk_180 0 76 (dk_at dksX3_anew_0 5 rfl rfl)
theorem dX3_anew_8 : decode cX3_anew 8 = .ok (.invokevirtual 79, 3) := dk_182 0 79 (dk_at dksX3_anew_0 8 rfl rfl)
theorem dX3_anew_11 : decode cX3_anew 11 = .ok (.istore_n 2, 1) := dk_61 (dk_at dksX3_anew_0 11 rfl rfl)
theorem dX3_anew_12 : decode cX3_anew 12 = .ok (.aload_n 0, 1) := dk_42 (dk_at dksX3_anew_0 12 rfl rfl)
theorem dX3_anew_13 : decode cX3_anew 13 = .ok (.aload_n 0, 1) := dk_42 (dk_at dksX3_anew_0 13 rfl rfl)
theorem dX3_anew_14 : decode cX3_anew 14 = .ok (.getfield 3, 3) := dk_180 0 3 (dk_at dksX3_anew_0 14 rfl rfl)
theorem dX3_anew_17 : decode cX3_anew 17 = .ok (.getfield 76, 3) := dk_180 0 76 (dk_at dksX3_anew_0 17 rfl rfl)
theorem dX3_anew_20 : decode cX3_anew 20 = .ok (.iconst 0, 1) := dk_3 (dk_at dksX3_anew_0 20 rfl rfl)
theorem dX3_anew_21 : decode cX3_anew 21 = .ok (.iload_n 2, 1) := dk_28 (dk_at dksX3_anew_0 21 rfl rfl)
theorem dX3_anew_22 : decode cX3_anew 22 = .ok (.iload_n 1, 1) := dk_27 (dk_at dksX3_anew_0 22 rfl rfl)
theorem dX3_anew_23 : decode cX3_anew 23 = .ok (.invokevirtual 83, 3) := dk_182 0 83 (dk_at dksX3_anew_1 0 rfl rfl)
theorem dX3_anew_26 : decode cX3_anew 26 = .ok (.return_, 1) := dk_177 (dk_at dksX3_anew_1 3 rfl rfl)
def dkwX3_lay_4 : List UInt8 := [192, 0, 15, 58, 5, 43, 28, 25, 5, 180, 0, 40, 79, 132, 2, 1, 167, 255, 223, 28, 172]
abbrev dktX3_lay_4 : List UInt8 := dkwX3_lay_4 ++ []
def dkwX3_lay_3 : List UInt8 := [182, 0, 55, 58, 4, 25, 4, 185, 0, 59, 1, 0, 153, 0, 29, 25, 4, 185, 0, 65, 1, 0]
abbrev dktX3_lay_3 : List UInt8 := dkwX3_lay_3 ++ dktX3_lay_4
def dkwX3_lay_2 : List UInt8 := [25, 4, 198, 0, 19, 45, 25, 4, 182, 0, 51, 25, 4, 180, 0, 44, 58, 4, 167, 255, 238, 45]
abbrev dktX3_lay_2 : List UInt8 := dkwX3_lay_2 ++ dktX3_lay_3
def dkwX3_lay_1 : List UInt8 := [180, 0, 44, 78, 167, 255, 237, 187, 0, 48, 89, 183, 0, 50, 78, 42, 180, 0, 17, 4, 50, 58, 4]
abbrev dktX3_lay_1 : List UInt8 := dkwX3_lay_1 ++ dktX3_lay_2
def dkwX3_lay_0 : List UInt8 := [3, 61, 42, 180, 0, 17, 3, 50, 78, 45, 198, 0, 21, 43, 28, 45, 180, 0, 40, 79, 132, 2, 1, 45]
abbrev dktX3_lay_0 : List UInt8 := dkwX3_lay_0 ++ dktX3_lay_1
theorem dksX3_lay_0 : cX3_lay.data.toList.drop 0 = dktX3_lay_0 := by decide +kernel
theorem dksX3_lay_1 : cX3_lay.data.toList.drop 24 = dktX3_lay_1 := dk_seg dksX3_lay_0 24 rfl rfl
theorem dksX3_lay_2 : cX3_lay.data.toList.drop 47 = dktX3_lay_2 := dk_seg dksX3_lay_1 23 rfl rfl
theorem dksX3_lay_3 : cX3_lay.data.toList.drop 69 = dktX3_lay_3 := dk_seg dksX3_lay_2 22 rfl rfl
theorem dksX3_lay_4 : cX3_lay.data.toList.drop 91 = dktX3_lay_4 := dk_seg dksX3_lay_3 22 rfl rfl
theorem dX3_lay_0 : decode cX3_lay 0 = .ok (.iconst 0, 1) := dk_3 (dk_at dksX3_lay_0 0 rfl rfl)
theorem dX3_lay_1 : decode cX3_lay 1 = .ok (.istore_n 2, 1) := dk_61 (dk_at dksX3_lay_0 1 rfl rfl)
theorem dX3_lay_2 : decode cX3_lay 2 = .ok (.aload_n 0, 1) := dk_42 (dk_at dksX3_lay_0 2 rfl rfl)
theorem dX3_lay_3 : decode cX3_lay 3 = .ok (.getfield 17, 3) := dk_180 0 17 (dk_at dksX3_lay_0 3 rfl rfl)
theorem dX3_lay_6 : decode cX3_lay 6 = .ok (.iconst 0, 1) := dk_3 (dk_at dksX3_lay_0 6 rfl rfl)
theorem dX3_lay_7 : decode cX3_lay 7 = .ok (.aaload, 1) := dk_50 (dk_at dksX3_lay_0 7 rfl rfl)
theorem dX3_lay_8 : decode cX3_lay 8 = .ok (.astore_n 3, 1) := dk_78 (dk_at dksX3_lay_0 8 rfl rfl)
theorem dX3_lay_9 : decode cX3_lay 9 = .ok (.aload_n 3, 1) := dk_45 (dk_at dksX3_lay_0 9 rfl rfl)
theorem dX3_lay_10 : decode cX3_lay 10 = .ok (.ifnull 21, 3) := dk_198 0 21 (dk_at dksX3_lay_0 10 rfl rfl)
theorem dX3_lay_13 : decode cX3_lay 13 = .ok (.aload_n 1, 1) := dk_43 (dk_at dksX3_lay_0 13 rfl rfl)
theorem dX3_lay_14 : decode cX3_lay 14 = .ok (.iload_n 2, 1) := dk_28 (dk_at dksX3_lay_0 14 rfl rfl)
theorem dX3_lay_15 : decode cX3_lay 15 = .ok (.aload_n 3, 1) := dk_45 (dk_at dksX3_lay_0 15 rfl rfl)
theorem dX3_lay_16 : decode cX3_lay 16 = .ok (.getfield 40, 3) := dk_180 0 40 (dk_at dksX3_lay_0 16 rfl rfl)
theorem dX3_lay_19 : decode cX3_lay 19 = .ok (.iastore, 1) := dk_79 (dk_at dksX3_lay_0 19 rfl rfl)
theorem dX3_lay_20 : decode cX3_lay 20 = .ok (.iinc 2 1, 3) := dk_132 2 1 (dk_at dksX3_lay_0 20 rfl rfl)
theorem dX3_lay_23 : decode cX3_lay 23 = .ok (.aload_n 3, 1) := dk_45 (dk_at dksX3_lay_0 23 rfl rfl)
theorem dX3_lay_24 : decode cX3_lay 24 = .ok (.getfield 44, 3) := dk_180 0 44 (dk_at dksX3_lay_1 0 rfl rfl)
theorem dX3_lay_27 : decode cX3_lay 27 = .ok (.astore_n 3, 1) := dk_78 (dk_at dksX3_lay_1 3 rfl rfl)
theorem dX3_lay_28 : decode cX3_lay 28 = .ok (.goto (-19), 3) := dk_167 255 237 (dk_at dksX3_lay_1 4 rfl rfl)
theorem dX3_lay_31 : decode cX3_lay 31 = .ok (.new 48, 3) := dk_187 0 48 (dk_at dksX3_lay_1 7 rfl rfl)
theorem dX3_lay_34 : decode cX3_lay 34 = .ok (.dup, 1) := dk_89 (dk_at dksX3_lay_1 10 rfl rfl)
theorem dX3_lay_35 : decode cX3_lay 35 = .ok (.invokespecial 50, 3) := dk_183 0 50 (dk_at dksX3_lay_1 11 rfl rfl)
theorem dX3_lay_38 : decode cX3_lay 38 = .ok (.astore_n 3, 1) := dk_78 (dk_at dksX3_lay_1 14 rfl rfl)
theorem dX3_lay_39 : decode cX3_lay 39 = .ok (.aload_n 0, 1) := dk_42 (dk_at dksX3_lay_1 15 rfl rfl)
theorem dX3_lay_40 : decode cX3_lay 40 = .ok (.getfield 17, 3) := dk_180 0 17 (dk_at dksX3_lay_1 16 rfl rfl)
theorem dX3_lay_43 : decode cX3_lay 43 = .ok (.iconst 1, 1) := dk_4 (dk_at dksX3_lay_1 19 rfl rfl)
theorem dX3_lay_44 : decode cX3_lay 44 = .ok (.aaload, 1) := dk_50 (dk_at dksX3_lay_1 20 rfl rfl)
theorem dX3_lay_45 : decode cX3_lay 45 = .ok (.astore 4, 2) := dk_58 4 (dk_at dksX3_lay_1 21 rfl rfl)
theorem dX3_lay_47 : decode cX3_lay 47 = .ok (.aload 4, 2) := dk_25 4 (dk_at dksX3_lay_2 0 rfl rfl)
theorem dX3_lay_49 : decode cX3_lay 49 = .ok (.ifnull 19, 3) := dk_198 0 19 (dk_at dksX3_lay_2 2 rfl rfl)
theorem dX3_lay_52 : decode cX3_lay 52 = .ok (.aload_n 3, 1) := dk_45 (dk_at dksX3_lay_2 5 rfl rfl)
theorem dX3_lay_53 : decode cX3_lay 53 = .ok (.aload 4, 2) := dk_25 4 (dk_at dksX3_lay_2 6 rfl rfl)
theorem dX3_lay_55 : decode cX3_lay 55 = .ok (.invokevirtual 51, 3) := dk_182 0 51 (dk_at dksX3_lay_2 8 rfl rfl)
theorem dX3_lay_58 : decode cX3_lay 58 = .ok (.aload 4, 2) := dk_25 4 (dk_at dksX3_lay_2 11 rfl rfl)
theorem dX3_lay_60 : decode cX3_lay 60 = .ok (.getfield 44, 3) := dk_180 0 44 (dk_at dksX3_lay_2 13 rfl rfl)
theorem dX3_lay_63 : decode cX3_lay 63 = .ok (.astore 4, 2) := dk_58 4 (dk_at dksX3_lay_2 16 rfl rfl)
theorem dX3_lay_65 : decode cX3_lay 65 = .ok (.goto (-18), 3) := dk_167 255 238 (dk_at dksX3_lay_2 18 rfl rfl)
theorem dX3_lay_68 : decode cX3_lay 68 = .ok (.aload_n 3, 1) := dk_45 (dk_at dksX3_lay_2 21 rfl rfl)
theorem dX3_lay_69 : decode cX3_lay 69 = .ok (.invokevirtual 55, 3) := dk_182 0 55 (dk_at dksX3_lay_3 0 rfl rfl)
theorem dX3_lay_72 : decode cX3_lay 72 = .ok (.astore 4, 2) := dk_58 4 (dk_at dksX3_lay_3 3 rfl rfl)
theorem dX3_lay_74 : decode cX3_lay 74 = .ok (.aload 4, 2) := dk_25 4 (dk_at dksX3_lay_3 5 rfl rfl)
theorem dX3_lay_76 : decode cX3_lay 76 = .ok (.invokeinterface 59 1, 5) := by decide +kernel
theorem dX3_lay_81 : decode cX3_lay 81 = .ok (.ifCond .eq 29, 3) := dk_153 0 29 (dk_at dksX3_lay_3 12 rfl rfl)
theorem dX3_lay_84 : decode cX3_lay 84 = .ok (.aload 4, 2) := dk_25 4 (dk_at dksX3_lay_3 15 rfl rfl)
theorem dX3_lay_86 : decode cX3_lay 86 = .ok (.invokeinterface 65 1, 5) := by decide +kernel
theorem dX3_lay_91 : decode cX3_lay 91 = .ok (.checkcast 15, 3) := dk_192 0 15 (dk_at dksX3_lay_4 0 rfl rfl)
theorem dX3_lay_94 : decode cX3_lay 94 = .ok (.astore 5, 2) := dk_58 5 (dk_at dksX3_lay_4 3 rfl rfl)
theorem dX3_lay_96 : decode cX3_lay 96 = .ok (.aload_n 1, 1) := dk_43 (dk_at dksX3_lay_4 5 rfl rfl)
theorem dX3_lay_97 : decode cX3_lay 97 = .ok (.iload_n 2, 1) := dk_28 (dk_at dksX3_lay_4 6 rfl rfl)
theorem dX3_lay_98 : decode cX3_lay 98 = .ok (.aload 5, 2) := dk_25 5 (dk_at dksX3_lay_4 7 rfl rfl)
theorem dX3_lay_100 : decode cX3_lay 100 = .ok (.getfield 40, 3) := dk_180 0 40 (dk_at dksX3_lay_4 9 rfl rfl)
theorem dX3_lay_103 : decode cX3_lay 103 = .ok (.iastore, 1) := dk_79 (dk_at dksX3_lay_4 12 rfl rfl)
theorem dX3_lay_104 : decode cX3_lay 104 = .ok (.iinc 2 1, 3) := dk_132 2 1 (dk_at dksX3_lay_4 13 rfl rfl)
theorem dX3_lay_107 : decode cX3_lay 107 = .ok (.goto (-33), 3) := dk_167 255 223 (dk_at dksX3_lay_4 16 rfl rfl)
theorem dX3_lay_110 : decode cX3_lay 110 = .ok (.iload_n 2, 1) := dk_28 (dk_at dksX3_lay_4 19 rfl rfl)
theorem dX3_lay_111 : decode cX3_lay 111 = .ok (.ireturn, 1) := dk_172 (dk_at dksX3_lay_4 20 rfl rfl)
def dkwX3_lays_2 : List UInt8 := [21, 5, 96, 46, 182, 0, 72, 132, 5, 1, 167, 255, 236, 177]
abbrev dktX3_lays_2 : List UInt8 := dkwX3_lays_2 ++ []
def dkwX3_lays_1 : List UInt8 := [182, 0, 72, 132, 5, 255, 167, 255, 237, 21, 4, 54, 5, 21, 5, 29, 162, 0, 20, 42, 4, 43, 28]
abbrev dktX3_lays_1 : List UInt8 := dkwX3_lays_1 ++ dktX3_lays_2
def dkwX3_lays_0 : List UInt8 := [42, 182, 0, 69, 21, 4, 4, 100, 54, 5, 21, 5, 155, 0, 20, 42, 3, 43, 28, 21, 5, 96, 46]
abbrev dktX3_lays_0 : List UInt8 := dkwX3_lays_0 ++ dktX3_lays_1
theorem dksX3_lays_0 : cX3_lays.data.toList.drop 0 = dktX3_lays_0 := by decide +kernel
theorem dksX3_lays_1 : cX3_lays.data.toList.drop 23 = dktX3_lays_1 := dk_seg dksX3_lays_0 23 rfl rfl
theorem dksX3_lays_2 : cX3_lays.data.toList.drop 46 = dktX3_lays_2 := dk_seg dksX3_lays_1 23 rfl rfl
theorem dX3_lays_0 : decode cX3_lays 0 = .ok (.aload_n 0, 1) := dk_42 (dk_at dksX3_lays_0 0 rfl rfl)
theorem dX3_lays_1 : decode cX3_lays 1 = .ok (.invokevirtual 69, 3) := dk_182 0 69 (dk_at dksX3_lays_0 1 rfl rfl)
theorem dX3_lays_4 : decode cX3_lays 4 = .ok (.iload 4, 2) := dk_21 4 (dk_at dksX3_lays_0 4 rfl rfl)
theorem dX3_lays_6 : decode cX3_lays 6 = .ok (.iconst 1, 1) := dk_4 (dk_at dksX3_lays_0 6 rfl rfl)
theorem dX3_lays_7 : decode cX3_lays 7 = .ok (.isub, 1) := dk_100 (dk_at dksX3_lays_0 7 rfl rfl)
theorem dX3_lays_8 : decode cX3_lays 8 = .ok (.istore 5, 2) := dk_54 5 (dk_at dksX3_lays_0 8 rfl rfl)
theorem dX3_lays_10 : decode cX3_lays 10 = .ok (.iload 5, 2) := dk_21 5 (dk_at dksX3_lays_0 10 rfl rfl)
theorem dX3_lays_12 : decode cX3_lays 12 = .ok (.ifCond .lt 20, 3) := dk_155 0 20 (dk_at dksX3_lays_0 12 rfl rfl)
theorem dX3_lays_15 : decode cX3_lays 15 = .ok (.aload_n 0, 1) := dk_42 (dk_at dksX3_lays_0 15 rfl rfl)
theorem dX3_lays_16 : decode cX3_lays 16 = .ok (.iconst 0, 1) := dk_3 (dk_at dksX3_lays_0 16 rfl rfl)
theorem dX3_lays_17 : decode cX3_lays 17 = .ok (.aload_n 1, 1) := dk_43 (dk_at dksX3_lays_0 17 rfl rfl)
theorem dX3_lays_18 : decode cX3_lays 18 = .ok (.iload_n 2, 1) := dk_28 (dk_at dksX3_lays_0 18 rfl rfl)
theorem dX3_lays_19 : decode cX3_lays 19 = .ok (.iload 5, 2) := dk_21 5 (dk_at dksX3_lays_0 19 rfl rfl)
theorem dX3_lays_21 : decode cX3_lays 21 = .ok (.iadd, 1) := dk_96 (dk_at dksX3_lays_0 21 rfl rfl)
theorem dX3_lays_22 : decode cX3_lays 22 = .ok (.iaload, 1) := dk_46 (dk_at dksX3_lays_0 22 rfl rfl)
theorem dX3_lays_23 : decode cX3_lays 23 = .ok (.invokevirtual 72, 3) := dk_182 0 72 (dk_at dksX3_lays_1 0 rfl rfl)
theorem dX3_lays_26 : decode cX3_lays 26 = .ok (.iinc 5 (-1), 3) := dk_132 5 255 (dk_at dksX3_lays_1 3 rfl rfl)
theorem dX3_lays_29 : decode cX3_lays 29 = .ok (.goto (-19), 3) := dk_167 255 237 (dk_at dksX3_lays_1 6 rfl rfl)
theorem dX3_lays_32 : decode cX3_lays 32 = .ok (.iload 4, 2) := dk_21 4 (dk_at dksX3_lays_1 9 rfl rfl)
theorem dX3_lays_34 : decode cX3_lays 34 = .ok (.istore 5, 2) := dk_54 5 (dk_at dksX3_lays_1 11 rfl rfl)
theorem dX3_lays_36 : decode cX3_lays 36 = .ok (.iload 5, 2) := dk_21 5 (dk_at dksX3_lays_1 13 rfl rfl)
theorem dX3_lays_38 : decode cX3_lays 38 = .ok (.iload_n 3, 1) := dk_29 (dk_at dksX3_lays_1 15 rfl rfl)
theorem dX3_lays_39 : decode cX3_lays 39 = .ok (.if_icmp .ge 20, 3) := dk_162 0 20 (dk_at dksX3_lays_1 16 rfl rfl)
theorem dX3_lays_42 : decode cX3_lays 42 = .ok (.aload_n 0, 1) := dk_42 (dk_at dksX3_lays_1 19 rfl rfl)
theorem dX3_lays_43 : decode cX3_lays 43 = .ok (.iconst 1, 1) := dk_4 (dk_at dksX3_lays_1 20 rfl rfl)
theorem dX3_lays_44 : decode cX3_lays 44 = .ok (.aload_n 1, 1) := dk_43 (dk_at dksX3_lays_1 21 rfl rfl)
theorem dX3_lays_45 : decode cX3_lays 45 = .ok (.iload_n 2, 1) := dk_28 (dk_at dksX3_lays_1 22 rfl rfl)
theorem dX3_lays_46 : decode cX3_lays 46 = .ok (.iload 5, 2) := dk_21 5 (dk_at dksX3_lays_2 0 rfl rfl)
theorem dX3_lays_48 : decode cX3_lays 48 = .ok (.iadd, 1) := dk_96 (dk_at dksX3_lays_2 2 rfl rfl)
theorem dX3_lays_49 : decode cX3_lays 49 = .ok (.iaload, 1) := dk_46 (dk_at dksX3_lays_2 3 rfl rfl)
theorem dX3_lays_50 : decode cX3_lays 50 = .ok (.invokevirtual 72, 3) := dk_182 0 72 (dk_at dksX3_lays_2 4 rfl rfl)
theorem dX3_lays_53 : decode cX3_lays 53 = .ok (.iinc 5 1, 3) := dk_132 5 1 (dk_at dksX3_lays_2 7 rfl rfl)
theorem dX3_lays_56 : decode cX3_lays 56 = .ok (.goto (-20), 3) := dk_167 255 236 (dk_at dksX3_lays_2 10 rfl rfl)
theorem dX3_lays_59 : decode cX3_lays 59 = .ok (.return_, 1) := dk_177 (dk_at dksX3_lays_2 13 rfl rfl)
def dkwX3_empties_1 : List UInt8 := [167, 255, 234, 177]
abbrev dktX3_empties_1 : List UInt8 := dkwX3_empties_1 ++ []
def dkwX3_empties_0 : List UInt8 := [3, 60, 27, 4, 163, 0, 23, 42, 180, 0, 17, 27, 1, 83, 42, 180, 0, 21, 27, 3, 79, 132, 1, 1]
abbrev dktX3_empties_0 : List UInt8 := dkwX3_empties_0 ++ dktX3_empties_1
theorem dksX3_empties_0 : cX3_empties.data.toList.drop 0 = dktX3_empties_0 := by decide +kernel
theorem dksX3_empties_1 : cX3_empties.data.toList.drop 24 = dktX3_empties_1 := dk_seg dksX3_empties_0 24 rfl rfl
theorem dX3_empties_0 : decode cX3_empties 0 = .ok (.iconst 0, 1) := dk_3 (dk_at dksX3_empties_0 0 rfl rfl)
theorem dX3_empties_1 : decode cX3_empties 1 = .ok (.istore_n 1, 1) := dk_60 (dk_at dksX3_empties_0 1 rfl rfl)
theorem dX3_empties_2 : decode cX3_empties 2 = .ok (.iload_n 1, 1) := dk_27 (dk_at dksX3_empties_0 2 rfl rfl)
theorem dX3_empties_3 : decode cX3_empties 3 = .ok (.iconst 1, 1) := dk_4 (dk_at dksX3_empties_0 3 rfl rfl)
theorem dX3_empties_4 : decode cX3_empties 4 = .ok (.if_icmp .gt 23, 3) := dk_163 0 23 (dk_at dksX3_empties_0 4 rfl rfl)
theorem dX3_empties_7 : decode cX3_empties 7 = .ok (.aload_n 0, 1) := dk_42 (dk_at dksX3_empties_0 7 rfl rfl)
theorem dX3_empties_8 : decode cX3_empties 8 = .ok (.getfield 17, 3) := dk_180 0 17 (dk_at dksX3_empties_0 8 rfl rfl)
theorem dX3_empties_11 : decode cX3_empties 11 = .ok (.iload_n 1, 1) := dk_27 (dk_at dksX3_empties_0 11 rfl rfl)
theorem dX3_empties_12 : decode cX3_empties 12 = .ok (.aconst_null, 1) := dk_1 (dk_at dksX3_empties_0 12 rfl rfl)
theorem dX3_empties_13 : decode cX3_empties 13 = .ok (.aastore, 1) := dk_83 (dk_at dksX3_empties_0 13 rfl rfl)
theorem dX3_empties_14 : decode cX3_empties 14 = .ok (.aload_n 0, 1) := dk_42 (dk_at dksX3_empties_0 14 rfl rfl)
theorem dX3_empties_15 : decode cX3_empties 15 = .ok (.getfield 21, 3) := dk_180 0 21 (dk_at dksX3_empties_0 15 rfl rfl)
theorem dX3_empties_18 : decode cX3_empties 18 = .ok (.iload_n 1, 1) := dk_27 (dk_at dksX3_empties_0 18 rfl rfl)
theorem dX3_empties_19 : decode cX3_empties 19 = .ok (.iconst 0, 1) := dk_3 (dk_at dksX3_empties_0 19 rfl rfl)
theorem dX3_empties_20 : decode cX3_empties 20 = .ok (.iastore, 1) := dk_79 (dk_at dksX3_empties_0 20 rfl rfl)
theorem dX3_empties_21 : decode cX3_empties 21 = .ok (.iinc 1 1, 3) := dk_132 1 1 (dk_at dksX3_empties_0 21 rfl rfl)
theorem dX3_empties_24 : decode cX3_empties 24 = .ok (.goto (-22), 3) := dk_167 255 234 (dk_at dksX3_empties_1 0 rfl rfl)
theorem dX3_empties_27 : decode cX3_empties 27 = .ok (.return_, 1) := dk_177 (dk_at dksX3_empties_1 3 rfl rfl)
def dkwX3_put_4 : List UInt8 := [10, 97, 181, 0, 36, 177]
abbrev dktX3_put_4 : List UInt8 := dkwX3_put_4 ++ []
def dkwX3_put_3 : List UInt8 := [180, 0, 17, 27, 45, 83, 42, 180, 0, 21, 27, 92, 46, 4, 96, 79, 42, 180, 0, 3, 89, 180, 0, 36]
abbrev dktX3_put_3 : List UInt8 := dkwX3_put_3 ++ dktX3_put_4
def dkwX3_put_2 : List UInt8 := [50, 182, 0, 32, 167, 0, 18, 42, 180, 0, 3, 45, 42, 180, 0, 17, 27, 50, 45, 182, 0, 32, 42]
abbrev dktX3_put_2 : List UInt8 := dkwX3_put_2 ++ dktX3_put_3
def dkwX3_put_1 : List UInt8 := [42, 180, 0, 17, 27, 50, 198, 0, 40, 27, 154, 0, 21, 42, 180, 0, 3, 45, 45, 42, 180, 0, 17, 27]
abbrev dktX3_put_1 : List UInt8 := dkwX3_put_1 ++ dktX3_put_2
def dkwX3_put_0 : List UInt8 := [187, 0, 15, 89, 28, 42, 180, 0, 17, 27, 50, 183, 0, 25, 78, 42, 180, 0, 3, 45, 28, 182, 0, 28]
abbrev dktX3_put_0 : List UInt8 := dkwX3_put_0 ++ dktX3_put_1
theorem dksX3_put_0 : cX3_put.data.toList.drop 0 = dktX3_put_0 := by decide +kernel
theorem dksX3_put_1 : cX3_put.data.toList.drop 24 = dktX3_put_1 := dk_seg dksX3_put_0 24 rfl rfl
theorem dksX3_put_2 : cX3_put.data.toList.drop 48 = dktX3_put_2 := dk_seg dksX3_put_1 24 rfl rfl
theorem dksX3_put_3 : cX3_put.data.toList.drop 71 = dktX3_put_3 := dk_seg dksX3_put_2 23 rfl rfl
theorem dksX3_put_4 : cX3_put.data.toList.drop 95 = dktX3_put_4 := dk_seg dksX3_put_3 24 rfl rfl
theorem dX3_put_0 : decode cX3_put 0 = .ok (.new 15, 3) := dk_187 0 15 (dk_at dksX3_put_0 0 rfl rfl)
theorem dX3_put_3 : decode cX3_put 3 = .ok (.dup, 1) := dk_89 (dk_at dksX3_put_0 3 rfl rfl)
theorem dX3_put_4 : decode cX3_put 4 = .ok (.iload_n 2, 1) := dk_28 (dk_at dksX3_put_0 4 rfl rfl)
theorem dX3_put_5 : decode cX3_put 5 = .ok (.aload_n 0, 1) := dk_42 (dk_at dksX3_put_0 5 rfl rfl)
theorem dX3_put_6 : decode cX3_put 6 = .ok (.getfield 17, 3) := dk_180 0 17 (dk_at dksX3_put_0 6 rfl rfl)
theorem dX3_put_9 : decode cX3_put 9 = .ok (.iload_n 1, 1) := dk_27 (dk_at dksX3_put_0 9 rfl rfl)
theorem dX3_put_10 : decode cX3_put 10 = .ok (.aaload, 1) := dk_50 (dk_at dksX3_put_0 10 rfl rfl)
theorem dX3_put_11 : decode cX3_put 11 = .ok (.invokespecial 25, 3) := dk_183 0 25 (dk_at dksX3_put_0 11 rfl rfl)
theorem dX3_put_14 : decode cX3_put 14 = .ok (.astore_n 3, 1) := dk_78 (dk_at dksX3_put_0 14 rfl rfl)
theorem dX3_put_15 : decode cX3_put 15 = .ok (.aload_n 0, 1) := dk_42 (dk_at dksX3_put_0 15 rfl rfl)
theorem dX3_put_16 : decode cX3_put 16 = .ok (.getfield 3, 3) := dk_180 0 3 (dk_at dksX3_put_0 16 rfl rfl)
theorem dX3_put_19 : decode cX3_put 19 = .ok (.aload_n 3, 1) := dk_45 (dk_at dksX3_put_0 19 rfl rfl)
theorem dX3_put_20 : decode cX3_put 20 = .ok (.iload_n 2, 1) := dk_28 (dk_at dksX3_put_0 20 rfl rfl)
theorem dX3_put_21 : decode cX3_put 21 = .ok (.invokevirtual 28, 3) := dk_182 0 28 (dk_at dksX3_put_0 21 rfl rfl)
theorem dX3_put_24 : decode cX3_put 24 = .ok (.aload_n 0, 1) := dk_42 (dk_at dksX3_put_1 0 rfl rfl)
theorem dX3_put_25 : decode cX3_put 25 = .ok (.getfield 17, 3) := dk_180 0 17 (dk_at dksX3_put_1 1 rfl rfl)
theorem dX3_put_28 : decode cX3_put 28 = .ok (.iload_n 1, 1) := dk_27 (dk_at dksX3_put_1 4 rfl rfl)
theorem dX3_put_29 : decode cX3_put 29 = .ok (.aaload, 1) := dk_50 (dk_at dksX3_put_1 5 rfl rfl)
theorem dX3_put_30 : decode cX3_put 30 = .ok (.ifnull 40, 3) := dk_198 0 40 (dk_at dksX3_put_1 6 rfl rfl)
theorem dX3_put_33 : decode cX3_put 33 = .ok (.iload_n 1, 1) := dk_27 (dk_at dksX3_put_1 9 rfl rfl)
theorem dX3_put_34 : decode cX3_put 34 = .ok (.ifCond .ne 21, 3) := dk_154 0 21 (dk_at dksX3_put_1 10 rfl rfl)
theorem dX3_put_37 : decode cX3_put 37 = .ok (.aload_n 0, 1) := dk_42 (dk_at dksX3_put_1 13 rfl rfl)
theorem dX3_put_38 : decode cX3_put 38 = .ok (.getfield 3, 3) := dk_180 0 3 (dk_at dksX3_put_1 14 rfl rfl)
theorem dX3_put_41 : decode cX3_put 41 = .ok (.aload_n 3, 1) := dk_45 (dk_at dksX3_put_1 17 rfl rfl)
theorem dX3_put_42 : decode cX3_put 42 = .ok (.aload_n 3, 1) := dk_45 (dk_at dksX3_put_1 18 rfl rfl)
theorem dX3_put_43 : decode cX3_put 43 = .ok (.aload_n 0, 1) := dk_42 (dk_at dksX3_put_1 19 rfl rfl)
theorem dX3_put_44 : decode cX3_put 44 = .ok (.getfield 17, 3) := dk_180 0 17 (dk_at dksX3_put_1 20 rfl rfl)
theorem dX3_put_47 : decode cX3_put 47 = .ok (.iload_n 1, 1) := dk_27 (dk_at dksX3_put_1 23 rfl rfl)
theorem dX3_put_48 : decode cX3_put 48 = .ok (.aaload, 1) := dk_50 (dk_at dksX3_put_2 0 rfl rfl)
theorem dX3_put_49 : decode cX3_put 49 = .ok (.invokevirtual 32, 3) := dk_182 0 32 (dk_at dksX3_put_2 1 rfl rfl)
theorem dX3_put_52 : decode cX3_put 52 = .ok (.goto 18, 3) := dk_167 0 18 (dk_at dksX3_put_2 4 rfl rfl)
theorem dX3_put_55 : decode cX3_put 55 = .ok (.aload_n 0, 1) := dk_42 (dk_at dksX3_put_2 7 rfl rfl)
theorem dX3_put_56 : decode cX3_put 56 = .ok (.getfield 3, 3) := dk_180 0 3 (dk_at dksX3_put_2 8 rfl rfl)
theorem dX3_put_59 : decode cX3_put 59 = .ok (.aload_n 3, 1) := dk_45 (dk_at dksX3_put_2 11 rfl rfl)
theorem dX3_put_60 : decode cX3_put 60 = .ok (.aload_n 0, 1) := dk_42 (dk_at dksX3_put_2 12 rfl rfl)
theorem dX3_put_61 : decode cX3_put 61 = .ok (.getfield 17, 3) := dk_180 0 17 (dk_at dksX3_put_2 13 rfl rfl)
theorem dX3_put_64 : decode cX3_put 64 = .ok (.iload_n 1, 1) := dk_27 (dk_at dksX3_put_2 16 rfl rfl)
theorem dX3_put_65 : decode cX3_put 65 = .ok (.aaload, 1) := dk_50 (dk_at dksX3_put_2 17 rfl rfl)
theorem dX3_put_66 : decode cX3_put 66 = .ok (.aload_n 3, 1) := dk_45 (dk_at dksX3_put_2 18 rfl rfl)
theorem dX3_put_67 : decode cX3_put 67 = .ok (.invokevirtual 32, 3) := dk_182 0 32 (dk_at dksX3_put_2 19 rfl rfl)
theorem dX3_put_70 : decode cX3_put 70 = .ok (.aload_n 0, 1) := dk_42 (dk_at dksX3_put_2 22 rfl rfl)
theorem dX3_put_71 : decode cX3_put 71 = .ok (.getfield 17, 3) := dk_180 0 17 (dk_at dksX3_put_3 0 rfl rfl)
theorem dX3_put_74 : decode cX3_put 74 = .ok (.iload_n 1, 1) := dk_27 (dk_at dksX3_put_3 3 rfl rfl)
theorem dX3_put_75 : decode cX3_put 75 = .ok (.aload_n 3, 1) := dk_45 (dk_at dksX3_put_3 4 rfl rfl)
theorem dX3_put_76 : decode cX3_put 76 = .ok (.aastore, 1) := dk_83 (dk_at dksX3_put_3 5 rfl rfl)
theorem dX3_put_77 : decode cX3_put 77 = .ok (.aload_n 0, 1) := dk_42 (dk_at dksX3_put_3 6 rfl rfl)
theorem dX3_put_78 : decode cX3_put 78 = .ok (.getfield 21, 3) := dk_180 0 21 (dk_at dksX3_put_3 7 rfl rfl)
theorem dX3_put_81 : decode cX3_put 81 = .ok (.iload_n 1, 1) := dk_27 (dk_at dksX3_put_3 10 rfl rfl)
theorem dX3_put_82 : decode cX3_put 82 = .ok (.dup2, 1) := dk_92 (dk_at dksX3_put_3 11 rfl rfl)
theorem dX3_put_83 : decode cX3_put 83 = .ok (.iaload, 1) := dk_46 (dk_at dksX3_put_3 12 rfl rfl)
theorem dX3_put_84 : decode cX3_put 84 = .ok (.iconst 1, 1) := dk_4 (dk_at dksX3_put_3 13 rfl rfl)
theorem dX3_put_85 : decode cX3_put 85 = .ok (.iadd, 1) := dk_96 (dk_at dksX3_put_3 14 rfl rfl)
theorem dX3_put_86 : decode cX3_put 86 = .ok (.iastore, 1) := dk_79 (dk_at dksX3_put_3 15 rfl rfl)
theorem dX3_put_87 : decode cX3_put 87 = .ok (.aload_n 0, 1) := dk_42 (dk_at dksX3_put_3 16 rfl rfl)
theorem dX3_put_88 : decode cX3_put 88 = .ok (.getfield 3, 3) := dk_180 0 3 (dk_at dksX3_put_3 17 rfl rfl)
theorem dX3_put_91 : decode cX3_put 91 = .ok (.dup, 1) := dk_89 (dk_at dksX3_put_3 20 rfl rfl)
theorem dX3_put_92 : decode cX3_put 92 = .ok (.getfield 36, 3) := dk_180 0 36 (dk_at dksX3_put_3 21 rfl rfl)
theorem dX3_put_95 : decode cX3_put 95 = .ok (.lconst 1, 1) := dk_10 (dk_at dksX3_put_4 0 rfl rfl)
theorem dX3_put_96 : decode cX3_put 96 = .ok (.ladd, 1) := dk_97 (dk_at dksX3_put_4 1 rfl rfl)
theorem dX3_put_97 : decode cX3_put 97 = .ok (.putfield 36, 3) := dk_181 0 36 (dk_at dksX3_put_4 2 rfl rfl)
theorem dX3_put_100 : decode cX3_put 100 = .ok (.return_, 1) := dk_177 (dk_at dksX3_put_4 5 rfl rfl)
def dkwX3_size_0 : List UInt8 := [42, 180, 0, 21, 3, 46, 42, 180, 0, 21, 4, 46, 96, 172]
abbrev dktX3_size_0 : List UInt8 := dkwX3_size_0 ++ []
theorem dksX3_size_0 : cX3_size.data.toList.drop 0 = dktX3_size_0 := by decide +kernel
theorem dX3_size_0 : decode cX3_size 0 = .ok (.aload_n 0, 1) := dk_42 (dk_at dksX3_size_0 0 rfl rfl)
theorem dX3_size_1 : decode cX3_size 1 = .ok (.getfield 21, 3) := dk_180 0 21 (dk_at dksX3_size_0 1 rfl rfl)
theorem dX3_size_4 : decode cX3_size 4 = .ok (.iconst 0, 1) := dk_3 (dk_at dksX3_size_0 4 rfl rfl)
theorem dX3_size_5 : decode cX3_size 5 = .ok (.iaload, 1) := dk_46 (dk_at dksX3_size_0 5 rfl rfl)
theorem dX3_size_6 : decode cX3_size 6 = .ok (.aload_n 0, 1) := dk_42 (dk_at dksX3_size_0 6 rfl rfl)
theorem dX3_size_7 : decode cX3_size 7 = .ok (.getfield 21, 3) := dk_180 0 21 (dk_at dksX3_size_0 7 rfl rfl)
theorem dX3_size_10 : decode cX3_size 10 = .ok (.iconst 1, 1) := dk_4 (dk_at dksX3_size_0 10 rfl rfl)
theorem dX3_size_11 : decode cX3_size 11 = .ok (.iaload, 1) := dk_46 (dk_at dksX3_size_0 11 rfl rfl)
theorem dX3_size_12 : decode cX3_size 12 = .ok (.iadd, 1) := dk_96 (dk_at dksX3_size_0 12 rfl rfl)
theorem dX3_size_13 : decode cX3_size 13 = .ok (.ireturn, 1) := dk_172 (dk_at dksX3_size_0 13 rfl rfl)
def dkwX3_take_3 : List UInt8 := [27, 92, 46, 4, 100, 79, 44, 180, 0, 40, 172]
abbrev dktX3_take_3 : List UInt8 := dkwX3_take_3 ++ []
def dkwX3_take_2 : List UInt8 := [182, 0, 94, 42, 180, 0, 17, 27, 50, 77, 42, 180, 0, 17, 27, 44, 180, 0, 44, 83, 42, 180, 0, 21]
abbrev dktX3_take_2 : List UInt8 := dkwX3_take_2 ++ dktX3_take_3
def dkwX3_take_1 : List UInt8 := [181, 0, 91, 42, 27, 154, 0, 11, 28, 4, 96, 5, 108, 167, 0, 10, 28, 28, 4, 96, 5, 108, 100]
abbrev dktX3_take_1 : List UInt8 := dkwX3_take_1 ++ dktX3_take_2
def dkwX3_take_0 : List UInt8 := [42, 180, 0, 21, 27, 46, 154, 0, 44, 42, 182, 0, 87, 61, 42, 180, 0, 3, 89, 180, 0, 91, 4, 96]
abbrev dktX3_take_0 : List UInt8 := dkwX3_take_0 ++ dktX3_take_1
theorem dksX3_take_0 : cX3_take.data.toList.drop 0 = dktX3_take_0 := by decide +kernel
theorem dksX3_take_1 : cX3_take.data.toList.drop 24 = dktX3_take_1 := dk_seg dksX3_take_0 24 rfl rfl
theorem dksX3_take_2 : cX3_take.data.toList.drop 47 = dktX3_take_2 := dk_seg dksX3_take_1 23 rfl rfl
theorem dksX3_take_3 : cX3_take.data.toList.drop 71 = dktX3_take_3 := dk_seg dksX3_take_2 24 rfl rfl
theorem dX3_take_0 : decode cX3_take 0 = .ok (.aload_n 0, 1) := dk_42 (dk_at dksX3_take_0 0 rfl rfl)
theorem dX3_take_1 : decode cX3_take 1 = .ok (.getfield 21, 3) := dk_180 0 21 (dk_at dksX3_take_0 1 rfl rfl)
theorem dX3_take_4 : decode cX3_take 4 = .ok (.iload_n 1, 1) := dk_27 (dk_at dksX3_take_0 4 rfl rfl)
theorem dX3_take_5 : decode cX3_take 5 = .ok (.iaload, 1) := dk_46 (dk_at dksX3_take_0 5 rfl rfl)
theorem dX3_take_6 : decode cX3_take 6 = .ok (.ifCond .ne 44, 3) := dk_154 0 44 (dk_at dksX3_take_0 6 rfl rfl)
theorem dX3_take_9 : decode cX3_take 9 = .ok (.aload_n 0, 1) := dk_42 (dk_at dksX3_take_0 9 rfl rfl)
theorem dX3_take_10 : decode cX3_take 10 = .ok (.invokevirtual 87, 3) := dk_182 0 87 (dk_at dksX3_take_0 10 rfl rfl)
theorem dX3_take_13 : decode cX3_take 13 = .ok (.istore_n 2, 1) := dk_61 (dk_at dksX3_take_0 13 rfl rfl)
theorem dX3_take_14 : decode cX3_take 14 = .ok (.aload_n 0, 1) := dk_42 (dk_at dksX3_take_0 14 rfl rfl)
theorem dX3_take_15 : decode cX3_take 15 = .ok (.getfield 3, 3) := dk_180 0 3 (dk_at dksX3_take_0 15 rfl rfl)
theorem dX3_take_18 : decode cX3_take 18 = .ok (.dup, 1) := dk_89 (dk_at dksX3_take_0 18 rfl rfl)
theorem dX3_take_19 : decode cX3_take 19 = .ok (.getfield 91, 3) := dk_180 0 91 (dk_at dksX3_take_0 19 rfl rfl)
theorem dX3_take_22 : decode cX3_take 22 = .ok (.iconst 1, 1) := dk_4 (dk_at dksX3_take_0 22 rfl rfl)
theorem dX3_take_23 : decode cX3_take 23 = .ok (.iadd, 1) := dk_96 (dk_at dksX3_take_0 23 rfl rfl)
theorem dX3_take_24 : decode cX3_take 24 = .ok (.putfield 91, 3) := dk_181 0 91 (dk_at dksX3_take_1 0 rfl rfl)
theorem dX3_take_27 : decode cX3_take 27 = .ok (.aload_n 0, 1) := dk_42 (dk_at dksX3_take_1 3 rfl rfl)
theorem dX3_take_28 : decode cX3_take 28 = .ok (.iload_n 1, 1) := dk_27 (dk_at dksX3_take_1 4 rfl rfl)
theorem dX3_take_29 : decode cX3_take 29 = .ok (.ifCond .ne 11, 3) := dk_154 0 11 (dk_at dksX3_take_1 5 rfl rfl)
theorem dX3_take_32 : decode cX3_take 32 = .ok (.iload_n 2, 1) := dk_28 (dk_at dksX3_take_1 8 rfl rfl)
theorem dX3_take_33 : decode cX3_take 33 = .ok (.iconst 1, 1) := dk_4 (dk_at dksX3_take_1 9 rfl rfl)
theorem dX3_take_34 : decode cX3_take 34 = .ok (.iadd, 1) := dk_96 (dk_at dksX3_take_1 10 rfl rfl)
theorem dX3_take_35 : decode cX3_take 35 = .ok (.iconst 2, 1) := dk_5 (dk_at dksX3_take_1 11 rfl rfl)
theorem dX3_take_36 : decode cX3_take 36 = .ok (.idiv, 1) := dk_108 (dk_at dksX3_take_1 12 rfl rfl)
theorem dX3_take_37 : decode cX3_take 37 = .ok (.goto 10, 3) := dk_167 0 10 (dk_at dksX3_take_1 13 rfl rfl)
theorem dX3_take_40 : decode cX3_take 40 = .ok (.iload_n 2, 1) := dk_28 (dk_at dksX3_take_1 16 rfl rfl)
theorem dX3_take_41 : decode cX3_take 41 = .ok (.iload_n 2, 1) := dk_28 (dk_at dksX3_take_1 17 rfl rfl)
theorem dX3_take_42 : decode cX3_take 42 = .ok (.iconst 1, 1) := dk_4 (dk_at dksX3_take_1 18 rfl rfl)
theorem dX3_take_43 : decode cX3_take 43 = .ok (.iadd, 1) := dk_96 (dk_at dksX3_take_1 19 rfl rfl)
theorem dX3_take_44 : decode cX3_take 44 = .ok (.iconst 2, 1) := dk_5 (dk_at dksX3_take_1 20 rfl rfl)
theorem dX3_take_45 : decode cX3_take 45 = .ok (.idiv, 1) := dk_108 (dk_at dksX3_take_1 21 rfl rfl)
theorem dX3_take_46 : decode cX3_take 46 = .ok (.isub, 1) := dk_100 (dk_at dksX3_take_1 22 rfl rfl)
theorem dX3_take_47 : decode cX3_take 47 = .ok (.invokevirtual 94, 3) := dk_182 0 94 (dk_at dksX3_take_2 0 rfl rfl)
theorem dX3_take_50 : decode cX3_take 50 = .ok (.aload_n 0, 1) := dk_42 (dk_at dksX3_take_2 3 rfl rfl)
theorem dX3_take_51 : decode cX3_take 51 = .ok (.getfield 17, 3) := dk_180 0 17 (dk_at dksX3_take_2 4 rfl rfl)
theorem dX3_take_54 : decode cX3_take 54 = .ok (.iload_n 1, 1) := dk_27 (dk_at dksX3_take_2 7 rfl rfl)
theorem dX3_take_55 : decode cX3_take 55 = .ok (.aaload, 1) := dk_50 (dk_at dksX3_take_2 8 rfl rfl)
theorem dX3_take_56 : decode cX3_take 56 = .ok (.astore_n 2, 1) := dk_77 (dk_at dksX3_take_2 9 rfl rfl)
theorem dX3_take_57 : decode cX3_take 57 = .ok (.aload_n 0, 1) := dk_42 (dk_at dksX3_take_2 10 rfl rfl)
theorem dX3_take_58 : decode cX3_take 58 = .ok (.getfield 17, 3) := dk_180 0 17 (dk_at dksX3_take_2 11 rfl rfl)
theorem dX3_take_61 : decode cX3_take 61 = .ok (.iload_n 1, 1) := dk_27 (dk_at dksX3_take_2 14 rfl rfl)
theorem dX3_take_62 : decode cX3_take 62 = .ok (.aload_n 2, 1) := dk_44 (dk_at dksX3_take_2 15 rfl rfl)
theorem dX3_take_63 : decode cX3_take 63 = .ok (.getfield 44, 3) := dk_180 0 44 (dk_at dksX3_take_2 16 rfl rfl)
theorem dX3_take_66 : decode cX3_take 66 = .ok (.aastore, 1) := dk_83 (dk_at dksX3_take_2 19 rfl rfl)
theorem dX3_take_67 : decode cX3_take 67 = .ok (.aload_n 0, 1) := dk_42 (dk_at dksX3_take_2 20 rfl rfl)
theorem dX3_take_68 : decode cX3_take 68 = .ok (.getfield 21, 3) := dk_180 0 21 (dk_at dksX3_take_2 21 rfl rfl)
theorem dX3_take_71 : decode cX3_take 71 = .ok (.iload_n 1, 1) := dk_27 (dk_at dksX3_take_3 0 rfl rfl)
theorem dX3_take_72 : decode cX3_take 72 = .ok (.dup2, 1) := dk_92 (dk_at dksX3_take_3 1 rfl rfl)
theorem dX3_take_73 : decode cX3_take 73 = .ok (.iaload, 1) := dk_46 (dk_at dksX3_take_3 2 rfl rfl)
theorem dX3_take_74 : decode cX3_take 74 = .ok (.iconst 1, 1) := dk_4 (dk_at dksX3_take_3 3 rfl rfl)
theorem dX3_take_75 : decode cX3_take 75 = .ok (.isub, 1) := dk_100 (dk_at dksX3_take_3 4 rfl rfl)
theorem dX3_take_76 : decode cX3_take 76 = .ok (.iastore, 1) := dk_79 (dk_at dksX3_take_3 5 rfl rfl)
theorem dX3_take_77 : decode cX3_take 77 = .ok (.aload_n 2, 1) := dk_44 (dk_at dksX3_take_3 6 rfl rfl)
theorem dX3_take_78 : decode cX3_take 78 = .ok (.getfield 40, 3) := dk_180 0 40 (dk_at dksX3_take_3 7 rfl rfl)
theorem dX3_take_81 : decode cX3_take 81 = .ok (.ireturn, 1) := dk_172 (dk_at dksX3_take_3 10 rfl rfl)
def dkwX3_be_1 : List UInt8 := [43, 180, 0, 21, 28, 46, 79, 132, 2, 1, 167, 255, 224, 177]
abbrev dktX3_be_1 : List UInt8 := dkwX3_be_1 ++ []
def dkwX3_be_0 : List UInt8 := [3, 61, 28, 4, 163, 0, 33, 42, 180, 0, 17, 28, 43, 180, 0, 17, 28, 50, 83, 42, 180, 0, 21, 28]
abbrev dktX3_be_0 : List UInt8 := dkwX3_be_0 ++ dktX3_be_1
theorem dksX3_be_0 : cX3_be.data.toList.drop 0 = dktX3_be_0 := by decide +kernel
theorem dksX3_be_1 : cX3_be.data.toList.drop 24 = dktX3_be_1 := dk_seg dksX3_be_0 24 rfl rfl
theorem dX3_be_0 : decode cX3_be 0 = .ok (.iconst 0, 1) := dk_3 (dk_at dksX3_be_0 0 rfl rfl)
theorem dX3_be_1 : decode cX3_be 1 = .ok (.istore_n 2, 1) := dk_61 (dk_at dksX3_be_0 1 rfl rfl)
theorem dX3_be_2 : decode cX3_be 2 = .ok (.iload_n 2, 1) := dk_28 (dk_at dksX3_be_0 2 rfl rfl)
theorem dX3_be_3 : decode cX3_be 3 = .ok (.iconst 1, 1) := dk_4 (dk_at dksX3_be_0 3 rfl rfl)
theorem dX3_be_4 : decode cX3_be 4 = .ok (.if_icmp .gt 33, 3) := dk_163 0 33 (dk_at dksX3_be_0 4 rfl rfl)
theorem dX3_be_7 : decode cX3_be 7 = .ok (.aload_n 0, 1) := dk_42 (dk_at dksX3_be_0 7 rfl rfl)
theorem dX3_be_8 : decode cX3_be 8 = .ok (.getfield 17, 3) := dk_180 0 17 (dk_at dksX3_be_0 8 rfl rfl)
theorem dX3_be_11 : decode cX3_be 11 = .ok (.iload_n 2, 1) := dk_28 (dk_at dksX3_be_0 11 rfl rfl)
theorem dX3_be_12 : decode cX3_be 12 = .ok (.aload_n 1, 1) := dk_43 (dk_at dksX3_be_0 12 rfl rfl)
theorem dX3_be_13 : decode cX3_be 13 = .ok (.getfield 17, 3) := dk_180 0 17 (dk_at dksX3_be_0 13 rfl rfl)
theorem dX3_be_16 : decode cX3_be 16 = .ok (.iload_n 2, 1) := dk_28 (dk_at dksX3_be_0 16 rfl rfl)
theorem dX3_be_17 : decode cX3_be 17 = .ok (.aaload, 1) := dk_50 (dk_at dksX3_be_0 17 rfl rfl)
theorem dX3_be_18 : decode cX3_be 18 = .ok (.aastore, 1) := dk_83 (dk_at dksX3_be_0 18 rfl rfl)
theorem dX3_be_19 : decode cX3_be 19 = .ok (.aload_n 0, 1) := dk_42 (dk_at dksX3_be_0 19 rfl rfl)
theorem dX3_be_20 : decode cX3_be 20 = .ok (.getfield 21, 3) := dk_180 0 21 (dk_at dksX3_be_0 20 rfl rfl)
theorem dX3_be_23 : decode cX3_be 23 = .ok (.iload_n 2, 1) := dk_28 (dk_at dksX3_be_0 23 rfl rfl)
theorem dX3_be_24 : decode cX3_be 24 = .ok (.aload_n 1, 1) := dk_43 (dk_at dksX3_be_1 0 rfl rfl)
theorem dX3_be_25 : decode cX3_be 25 = .ok (.getfield 21, 3) := dk_180 0 21 (dk_at dksX3_be_1 1 rfl rfl)
theorem dX3_be_28 : decode cX3_be 28 = .ok (.iload_n 2, 1) := dk_28 (dk_at dksX3_be_1 4 rfl rfl)
theorem dX3_be_29 : decode cX3_be 29 = .ok (.iaload, 1) := dk_46 (dk_at dksX3_be_1 5 rfl rfl)
theorem dX3_be_30 : decode cX3_be 30 = .ok (.iastore, 1) := dk_79 (dk_at dksX3_be_1 6 rfl rfl)
theorem dX3_be_31 : decode cX3_be 31 = .ok (.iinc 2 1, 3) := dk_132 2 1 (dk_at dksX3_be_1 7 rfl rfl)
theorem dX3_be_34 : decode cX3_be 34 = .ok (.goto (-32), 3) := dk_167 255 224 (dk_at dksX3_be_1 10 rfl rfl)
theorem dX3_be_37 : decode cX3_be 37 = .ok (.return_, 1) := dk_177 (dk_at dksX3_be_1 13 rfl rfl)
def dkwX3_alters_5 : List UInt8 := [180, 0, 102, 182, 0, 109, 21, 7, 172]
abbrev dktX3_alters_5 : List UInt8 := dkwX3_alters_5 ++ []
def dkwX3_alters_4 : List UInt8 := [4, 100, 79, 29, 153, 0, 11, 42, 21, 5, 21, 4, 182, 0, 72, 42, 21, 5, 21, 6, 42, 180, 0, 3]
abbrev dktX3_alters_4 : List UInt8 := dkwX3_alters_4 ++ dktX3_alters_5
def dkwX3_alters_3 : List UInt8 := [180, 0, 17, 21, 5, 42, 180, 0, 17, 21, 5, 50, 180, 0, 44, 83, 42, 180, 0, 21, 21, 5, 92, 46]
abbrev dktX3_alters_3 : List UInt8 := dkwX3_alters_3 ++ dktX3_alters_4
def dkwX3_alters_2 : List UInt8 := [180, 0, 102, 182, 0, 105, 28, 153, 0, 43, 42, 180, 0, 17, 21, 5, 50, 180, 0, 40, 54, 7, 42]
abbrev dktX3_alters_2 : List UInt8 := dkwX3_alters_2 ++ dktX3_alters_3
def dkwX3_alters_1 : List UInt8 := [28, 153, 0, 7, 3, 167, 0, 4, 4, 96, 54, 6, 2, 54, 7, 42, 21, 5, 21, 6, 42, 180, 0, 3]
abbrev dktX3_alters_1 : List UInt8 := dkwX3_alters_1 ++ dktX3_alters_2
def dkwX3_alters_0 : List UInt8 := [42, 27, 182, 0, 98, 54, 5, 21, 5, 154, 0, 7, 27, 167, 0, 21, 42, 182, 0, 87, 4, 100, 27, 100]
abbrev dktX3_alters_0 : List UInt8 := dkwX3_alters_0 ++ dktX3_alters_1
theorem dksX3_alters_0 : cX3_alters.data.toList.drop 0 = dktX3_alters_0 := by decide +kernel
theorem dksX3_alters_1 : cX3_alters.data.toList.drop 24 = dktX3_alters_1 := dk_seg dksX3_alters_0 24 rfl rfl
theorem dksX3_alters_2 : cX3_alters.data.toList.drop 48 = dktX3_alters_2 := dk_seg dksX3_alters_1 24 rfl rfl
theorem dksX3_alters_3 : cX3_alters.data.toList.drop 71 = dktX3_alters_3 := dk_seg dksX3_alters_2 23 rfl rfl
theorem dksX3_alters_4 : cX3_alters.data.toList.drop 95 = dktX3_alters_4 := dk_seg dksX3_alters_3 24 rfl rfl
theorem dksX3_alters_5 : cX3_alters.data.toList.drop 119 = dktX3_alters_5 := dk_seg dksX3_alters_4 24 rfl rfl
theorem dX3_alters_0 : decode cX3_alters 0 = .ok (.aload_n 0, 1) := dk_42 (dk_at dksX3_alters_0 0 rfl rfl)
theorem dX3_alters_1 : decode cX3_alters 1 = .ok (.iload_n 1, 1) := dk_27 (dk_at dksX3_alters_0 1 rfl rfl)
theorem dX3_alters_2 : decode cX3_alters 2 = .ok (.invokevirtual 98, 3) := dk_182 0 98 (dk_at dksX3_alters_0 2 rfl rfl)
theorem dX3_alters_5 : decode cX3_alters 5 = .ok (.istore 5, 2) := dk_54 5 (dk_at dksX3_alters_0 5 rfl rfl)
theorem dX3_alters_7 : decode cX3_alters 7 = .ok (.iload 5, 2) := dk_21 5 (dk_at dksX3_alters_0 7 rfl rfl)
theorem dX3_alters_9 : decode cX3_alters 9 = .ok (.ifCond .ne 7, 3) := dk_154 0 7 (dk_at dksX3_alters_0 9 rfl rfl)
theorem dX3_alters_12 : decode cX3_alters 12 = .ok (.iload_n 1, 1) := dk_27 (dk_at dksX3_alters_0 12 rfl rfl)
theorem dX3_alters_13 : decode cX3_alters 13 = .ok (.goto 21, 3) := dk_167 0 21 (dk_at dksX3_alters_0 13 rfl rfl)
theorem dX3_alters_16 : decode cX3_alters 16 = .ok (.aload_n 0, 1) := dk_42 (dk_at dksX3_alters_0 16 rfl rfl)
theorem dX3_alters_17 : decode cX3_alters 17 = .ok (.invokevirtual 87, 3) := dk_182 0 87 (dk_at dksX3_alters_0 17 rfl rfl)
theorem dX3_alters_20 : decode cX3_alters 20 = .ok (.iconst 1, 1) := dk_4 (dk_at dksX3_alters_0 20 rfl rfl)
theorem dX3_alters_21 : decode cX3_alters 21 = .ok (.isub, 1) := dk_100 (dk_at dksX3_alters_0 21 rfl rfl)
theorem dX3_alters_22 : decode cX3_alters 22 = .ok (.iload_n 1, 1) := dk_27 (dk_at dksX3_alters_0 22 rfl rfl)
theorem dX3_alters_23 : decode cX3_alters 23 = .ok (.isub, 1) := dk_100 (dk_at dksX3_alters_0 23 rfl rfl)
theorem dX3_alters_24 : decode cX3_alters 24 = .ok (.iload_n 2, 1) := dk_28 (dk_at dksX3_alters_1 0 rfl rfl)
theorem dX3_alters_25 : decode cX3_alters 25 = .ok (.ifCond .eq 7, 3) := dk_153 0 7 (dk_at dksX3_alters_1 1 rfl rfl)
theorem dX3_alters_28 : decode cX3_alters 28 = .ok (.iconst 0, 1) := dk_3 (dk_at dksX3_alters_1 4 rfl rfl)
theorem dX3_alters_29 : decode cX3_alters 29 = .ok (.goto 4, 3) := dk_167 0 4 (dk_at dksX3_alters_1 5 rfl rfl)
theorem dX3_alters_32 : decode cX3_alters 32 = .ok (.iconst 1, 1) := dk_4 (dk_at dksX3_alters_1 8 rfl rfl)
theorem dX3_alters_33 : decode cX3_alters 33 = .ok (.iadd, 1) := dk_96 (dk_at dksX3_alters_1 9 rfl rfl)
theorem dX3_alters_34 : decode cX3_alters 34 = .ok (.istore 6, 2) := dk_54 6 (dk_at dksX3_alters_1 10 rfl rfl)
theorem dX3_alters_36 : decode cX3_alters 36 = .ok (.iconst (-1), 1) := dk_2 (dk_at dksX3_alters_1 12 rfl rfl)
theorem dX3_alters_37 : decode cX3_alters 37 = .ok (.istore 7, 2) := dk_54 7 (dk_at dksX3_alters_1 13 rfl rfl)
theorem dX3_alters_39 : decode cX3_alters 39 = .ok (.aload_n 0, 1) := dk_42 (dk_at dksX3_alters_1 15 rfl rfl)
theorem dX3_alters_40 : decode cX3_alters 40 = .ok (.iload 5, 2) := dk_21 5 (dk_at dksX3_alters_1 16 rfl rfl)
theorem dX3_alters_42 : decode cX3_alters 42 = .ok (.iload 6, 2) := dk_21 6 (dk_at dksX3_alters_1 18 rfl rfl)
theorem dX3_alters_44 : decode cX3_alters 44 = .ok (.aload_n 0, 1) := dk_42 (dk_at dksX3_alters_1 20 rfl rfl)
theorem dX3_alters_45 : decode cX3_alters 45 = .ok (.getfield 3, 3) := dk_180 0 3 (dk_at dksX3_alters_1 21 rfl rfl)
theorem dX3_alters_48 : decode cX3_alters 48 = .ok (.getfield 102, 3) := dk_180 0 102 (dk_at dksX3_alters_2 0 rfl rfl)
theorem dX3_alters_51 : decode cX3_alters 51 = .ok (.invokevirtual 105, 3) := dk_182 0 105 (dk_at dksX3_alters_2 3 rfl rfl)
theorem dX3_alters_54 : decode cX3_alters 54 = .ok (.iload_n 2, 1) := dk_28 (dk_at dksX3_alters_2 6 rfl rfl)
theorem dX3_alters_55 : decode cX3_alters 55 = .ok (.ifCond .eq 43, 3) := dk_153 0 43 (dk_at dksX3_alters_2 7 rfl rfl)
theorem dX3_alters_58 : decode cX3_alters 58 = .ok (.aload_n 0, 1) := dk_42 (dk_at dksX3_alters_2 10 rfl rfl)
theorem dX3_alters_59 : decode cX3_alters 59 = .ok (.getfield 17, 3) := dk_180 0 17 (dk_at dksX3_alters_2 11 rfl rfl)
theorem dX3_alters_62 : decode cX3_alters 62 = .ok (.iload 5, 2) := dk_21 5 (dk_at dksX3_alters_2 14 rfl rfl)
theorem dX3_alters_64 : decode cX3_alters 64 = .ok (.aaload, 1) := dk_50 (dk_at dksX3_alters_2 16 rfl rfl)
theorem dX3_alters_65 : decode cX3_alters 65 = .ok (.getfield 40, 3) := dk_180 0 40 (dk_at dksX3_alters_2 17 rfl rfl)
theorem dX3_alters_68 : decode cX3_alters 68 = .ok (.istore 7, 2) := dk_54 7 (dk_at dksX3_alters_2 20 rfl rfl)
theorem dX3_alters_70 : decode cX3_alters 70 = .ok (.aload_n 0, 1) := dk_42 (dk_at dksX3_alters_2 22 rfl rfl)
theorem dX3_alters_71 : decode cX3_alters 71 = .ok (.getfield 17, 3) := dk_180 0 17 (dk_at dksX3_alters_3 0 rfl rfl)
theorem dX3_alters_74 : decode cX3_alters 74 = .ok (.iload 5, 2) := dk_21 5 (dk_at dksX3_alters_3 3 rfl rfl)
theorem dX3_alters_76 : decode cX3_alters 76 = .ok (.aload_n 0, 1) := dk_42 (dk_at dksX3_alters_3 5 rfl rfl)
theorem dX3_alters_77 : decode cX3_alters 77 = .ok (.getfield 17, 3) := dk_180 0 17 (dk_at dksX3_alters_3 6 rfl rfl)
theorem dX3_alters_80 : decode cX3_alters 80 = .ok (.iload 5, 2) := dk_21 5 (dk_at dksX3_alters_3 9 rfl rfl)
theorem dX3_alters_82 : decode cX3_alters 82 = .ok (.aaload, 1) := dk_50 (dk_at dksX3_alters_3 11 rfl rfl)
theorem dX3_alters_83 : decode cX3_alters 83 = .ok (.getfield 44, 3) := dk_180 0 44 (dk_at dksX3_alters_3 12 rfl rfl)
theorem dX3_alters_86 : decode cX3_alters 86 = .ok (.aastore, 1) := dk_83 (dk_at dksX3_alters_3 15 rfl rfl)
theorem dX3_alters_87 : decode cX3_alters 87 = .ok (.aload_n 0, 1) := dk_42 (dk_at dksX3_alters_3 16 rfl rfl)
theorem dX3_alters_88 : decode cX3_alters 88 = .ok (.getfield 21, 3) := dk_180 0 21 (dk_at dksX3_alters_3 17 rfl rfl)
theorem dX3_alters_91 : decode cX3_alters 91 = .ok (.iload 5, 2) := dk_21 5 (dk_at dksX3_alters_3 20 rfl rfl)
theorem dX3_alters_93 : decode cX3_alters 93 = .ok (.dup2, 1) := dk_92 (dk_at dksX3_alters_3 22 rfl rfl)
theorem dX3_alters_94 : decode cX3_alters 94 = .ok (.iaload, 1) := dk_46 (dk_at dksX3_alters_3 23 rfl rfl)
theorem dX3_alters_95 : decode cX3_alters 95 = .ok (.iconst 1, 1) := dk_4 (dk_at dksX3_alters_4 0 rfl rfl)
theorem dX3_alters_96 : decode cX3_alters 96 = .ok (.isub, 1) := dk_100 (dk_at dksX3_alters_4 1 rfl rfl)
theorem dX3_alters_97 : decode cX3_alters 97 = .ok (.iastore, 1) := dk_79 (dk_at dksX3_alters_4 2 rfl rfl)
theorem dX3_alters_98 : decode cX3_alters 98 = .ok (.iload_n 3, 1) := dk_29 (dk_at dksX3_alters_4 3 rfl rfl)
theorem dX3_alters_99 : decode cX3_alters 99 = .ok (.ifCond .eq 11, 3) := dk_153 0 11 (dk_at dksX3_alters_4 4 rfl rfl)
theorem dX3_alters_102 : decode cX3_alters 102 = .ok (.aload_n 0, 1) := dk_42 (dk_at dksX3_alters_4 7 rfl rfl)
theorem dX3_alters_103 : decode cX3_alters 103 = .ok (.iload 5, 2) := dk_21 5 (dk_at dksX3_alters_4 8 rfl rfl)
theorem dX3_alters_105 : decode cX3_alters 105 = .ok (.iload 4, 2) := dk_21 4 (dk_at dksX3_alters_4 10 rfl rfl)
theorem dX3_alters_107 : decode cX3_alters 107 = .ok (.invokevirtual 72, 3) := dk_182 0 72 (dk_at dksX3_alters_4 12 rfl rfl)
theorem dX3_alters_110 : decode cX3_alters 110 = .ok (.aload_n 0, 1) := dk_42 (dk_at dksX3_alters_4 15 rfl rfl)
theorem dX3_alters_111 : decode cX3_alters 111 = .ok (.iload 5, 2) := dk_21 5 (dk_at dksX3_alters_4 16 rfl rfl)
theorem dX3_alters_113 : decode cX3_alters 113 = .ok (.iload 6, 2) := dk_21 6 (dk_at dksX3_alters_4 18 rfl rfl)
theorem dX3_alters_115 : decode cX3_alters 115 = .ok (.aload_n 0, 1) := dk_42 (dk_at dksX3_alters_4 20 rfl rfl)
theorem dX3_alters_116 : decode cX3_alters 116 = .ok (.getfield 3, 3) := dk_180 0 3 (dk_at dksX3_alters_4 21 rfl rfl)
theorem dX3_alters_119 : decode cX3_alters 119 = .ok (.getfield 102, 3) := dk_180 0 102 (dk_at dksX3_alters_5 0 rfl rfl)
theorem dX3_alters_122 : decode cX3_alters 122 = .ok (.invokevirtual 109, 3) := dk_182 0 109 (dk_at dksX3_alters_5 3 rfl rfl)
theorem dX3_alters_125 : decode cX3_alters 125 = .ok (.iload 7, 2) := dk_21 7 (dk_at dksX3_alters_5 6 rfl rfl)
theorem dX3_alters_127 : decode cX3_alters 127 = .ok (.ireturn, 1) := dk_172 (dk_at dksX3_alters_5 8 rfl rfl)
def dkwX3_endOf_0 : List UInt8 := [27, 42, 180, 0, 21, 3, 46, 162, 0, 7, 3, 167, 0, 4, 4, 172]
abbrev dktX3_endOf_0 : List UInt8 := dkwX3_endOf_0 ++ []
theorem dksX3_endOf_0 : cX3_endOf.data.toList.drop 0 = dktX3_endOf_0 := by decide +kernel
theorem dX3_endOf_0 : decode cX3_endOf 0 = .ok (.iload_n 1, 1) := dk_27 (dk_at dksX3_endOf_0 0 rfl rfl)
theorem dX3_endOf_1 : decode cX3_endOf 1 = .ok (.aload_n 0, 1) := dk_42 (dk_at dksX3_endOf_0 1 rfl rfl)
theorem dX3_endOf_2 : decode cX3_endOf 2 = .ok (.getfield 21, 3) := dk_180 0 21 (dk_at dksX3_endOf_0 2 rfl rfl)
theorem dX3_endOf_5 : decode cX3_endOf 5 = .ok (.iconst 0, 1) := dk_3 (dk_at dksX3_endOf_0 5 rfl rfl)
theorem dX3_endOf_6 : decode cX3_endOf 6 = .ok (.iaload, 1) := dk_46 (dk_at dksX3_endOf_0 6 rfl rfl)
theorem dX3_endOf_7 : decode cX3_endOf 7 = .ok (.if_icmp .ge 7, 3) := dk_162 0 7 (dk_at dksX3_endOf_0 7 rfl rfl)
theorem dX3_endOf_10 : decode cX3_endOf 10 = .ok (.iconst 0, 1) := dk_3 (dk_at dksX3_endOf_0 10 rfl rfl)
theorem dX3_endOf_11 : decode cX3_endOf 11 = .ok (.goto 4, 3) := dk_167 0 4 (dk_at dksX3_endOf_0 11 rfl rfl)
theorem dX3_endOf_14 : decode cX3_endOf 14 = .ok (.iconst 1, 1) := dk_4 (dk_at dksX3_endOf_0 14 rfl rfl)
theorem dX3_endOf_15 : decode cX3_endOf 15 = .ok (.ireturn, 1) := dk_172 (dk_at dksX3_endOf_0 15 rfl rfl)
def dkwX3_lifts_2 : List UInt8 := [132, 4, 1, 167, 255, 209, 177]
abbrev dktX3_lifts_2 : List UInt8 := dkwX3_lifts_2 ++ []
def dkwX3_lifts_1 : List UInt8 := [180, 0, 17, 27, 42, 180, 0, 17, 27, 50, 180, 0, 44, 83, 42, 180, 0, 21, 27, 92, 46, 4, 100, 79]
abbrev dktX3_lifts_1 : List UInt8 := dkwX3_lifts_1 ++ dktX3_lifts_2
def dkwX3_lifts_0 : List UInt8 := [3, 54, 4, 21, 4, 28, 162, 0, 47, 45, 21, 4, 42, 180, 0, 17, 27, 50, 180, 0, 40, 79, 42]
abbrev dktX3_lifts_0 : List UInt8 := dkwX3_lifts_0 ++ dktX3_lifts_1
theorem dksX3_lifts_0 : cX3_lifts.data.toList.drop 0 = dktX3_lifts_0 := by decide +kernel
theorem dksX3_lifts_1 : cX3_lifts.data.toList.drop 23 = dktX3_lifts_1 := dk_seg dksX3_lifts_0 23 rfl rfl
theorem dksX3_lifts_2 : cX3_lifts.data.toList.drop 47 = dktX3_lifts_2 := dk_seg dksX3_lifts_1 24 rfl rfl
theorem dX3_lifts_0 : decode cX3_lifts 0 = .ok (.iconst 0, 1) := dk_3 (dk_at dksX3_lifts_0 0 rfl rfl)
theorem dX3_lifts_1 : decode cX3_lifts 1 = .ok (.istore 4, 2) := dk_54 4 (dk_at dksX3_lifts_0 1 rfl rfl)
theorem dX3_lifts_3 : decode cX3_lifts 3 = .ok (.iload 4, 2) := dk_21 4 (dk_at dksX3_lifts_0 3 rfl rfl)
theorem dX3_lifts_5 : decode cX3_lifts 5 = .ok (.iload_n 2, 1) := dk_28 (dk_at dksX3_lifts_0 5 rfl rfl)
theorem dX3_lifts_6 : decode cX3_lifts 6 = .ok (.if_icmp .ge 47, 3) := dk_162 0 47 (dk_at dksX3_lifts_0 6 rfl rfl)
theorem dX3_lifts_9 : decode cX3_lifts 9 = .ok (.aload_n 3, 1) := dk_45 (dk_at dksX3_lifts_0 9 rfl rfl)
theorem dX3_lifts_10 : decode cX3_lifts 10 = .ok (.iload 4, 2) := dk_21 4 (dk_at dksX3_lifts_0 10 rfl rfl)
theorem dX3_lifts_12 : decode cX3_lifts 12 = .ok (.aload_n 0, 1) := dk_42 (dk_at dksX3_lifts_0 12 rfl rfl)
theorem dX3_lifts_13 : decode cX3_lifts 13 = .ok (.getfield 17, 3) := dk_180 0 17 (dk_at dksX3_lifts_0 13 rfl rfl)
theorem dX3_lifts_16 : decode cX3_lifts 16 = .ok (.iload_n 1, 1) := dk_27 (dk_at dksX3_lifts_0 16 rfl rfl)
theorem dX3_lifts_17 : decode cX3_lifts 17 = .ok (.aaload, 1) := dk_50 (dk_at dksX3_lifts_0 17 rfl rfl)
theorem dX3_lifts_18 : decode cX3_lifts 18 = .ok (.getfield 40, 3) := dk_180 0 40 (dk_at dksX3_lifts_0 18 rfl rfl)
theorem dX3_lifts_21 : decode cX3_lifts 21 = .ok (.iastore, 1) := dk_79 (dk_at dksX3_lifts_0 21 rfl rfl)
theorem dX3_lifts_22 : decode cX3_lifts 22 = .ok (.aload_n 0, 1) := dk_42 (dk_at dksX3_lifts_0 22 rfl rfl)
theorem dX3_lifts_23 : decode cX3_lifts 23 = .ok (.getfield 17, 3) := dk_180 0 17 (dk_at dksX3_lifts_1 0 rfl rfl)
theorem dX3_lifts_26 : decode cX3_lifts 26 = .ok (.iload_n 1, 1) := dk_27 (dk_at dksX3_lifts_1 3 rfl rfl)
theorem dX3_lifts_27 : decode cX3_lifts 27 = .ok (.aload_n 0, 1) := dk_42 (dk_at dksX3_lifts_1 4 rfl rfl)
theorem dX3_lifts_28 : decode cX3_lifts 28 = .ok (.getfield 17, 3) := dk_180 0 17 (dk_at dksX3_lifts_1 5 rfl rfl)
theorem dX3_lifts_31 : decode cX3_lifts 31 = .ok (.iload_n 1, 1) := dk_27 (dk_at dksX3_lifts_1 8 rfl rfl)
theorem dX3_lifts_32 : decode cX3_lifts 32 = .ok (.aaload, 1) := dk_50 (dk_at dksX3_lifts_1 9 rfl rfl)
theorem dX3_lifts_33 : decode cX3_lifts 33 = .ok (.getfield 44, 3) := dk_180 0 44 (dk_at dksX3_lifts_1 10 rfl rfl)
theorem dX3_lifts_36 : decode cX3_lifts 36 = .ok (.aastore, 1) := dk_83 (dk_at dksX3_lifts_1 13 rfl rfl)
theorem dX3_lifts_37 : decode cX3_lifts 37 = .ok (.aload_n 0, 1) := dk_42 (dk_at dksX3_lifts_1 14 rfl rfl)
theorem dX3_lifts_38 : decode cX3_lifts 38 = .ok (.getfield 21, 3) := dk_180 0 21 (dk_at dksX3_lifts_1 15 rfl rfl)
theorem dX3_lifts_41 : decode cX3_lifts 41 = .ok (.iload_n 1, 1) := dk_27 (dk_at dksX3_lifts_1 18 rfl rfl)
theorem dX3_lifts_42 : decode cX3_lifts 42 = .ok (.dup2, 1) := dk_92 (dk_at dksX3_lifts_1 19 rfl rfl)
theorem dX3_lifts_43 : decode cX3_lifts 43 = .ok (.iaload, 1) := dk_46 (dk_at dksX3_lifts_1 20 rfl rfl)
theorem dX3_lifts_44 : decode cX3_lifts 44 = .ok (.iconst 1, 1) := dk_4 (dk_at dksX3_lifts_1 21 rfl rfl)
theorem dX3_lifts_45 : decode cX3_lifts 45 = .ok (.isub, 1) := dk_100 (dk_at dksX3_lifts_1 22 rfl rfl)
theorem dX3_lifts_46 : decode cX3_lifts 46 = .ok (.iastore, 1) := dk_79 (dk_at dksX3_lifts_1 23 rfl rfl)
theorem dX3_lifts_47 : decode cX3_lifts 47 = .ok (.iinc 4 1, 3) := dk_132 4 1 (dk_at dksX3_lifts_2 0 rfl rfl)
theorem dX3_lifts_50 : decode cX3_lifts 50 = .ok (.goto (-47), 3) := dk_167 255 209 (dk_at dksX3_lifts_2 3 rfl rfl)
theorem dX3_lifts_53 : decode cX3_lifts 53 = .ok (.return_, 1) := dk_177 (dk_at dksX3_lifts_2 6 rfl rfl)
def dkwX3_puts0_1 : List UInt8 := [167, 255, 239, 177]
abbrev dktX3_puts0_1 : List UInt8 := dkwX3_puts0_1 ++ []
def dkwX3_puts0_0 : List UInt8 := [28, 4, 100, 54, 4, 21, 4, 155, 0, 18, 42, 27, 45, 21, 4, 46, 182, 0, 72, 132, 4, 255]
abbrev dktX3_puts0_0 : List UInt8 := dkwX3_puts0_0 ++ dktX3_puts0_1
theorem dksX3_puts0_0 : cX3_puts0.data.toList.drop 0 = dktX3_puts0_0 := by decide +kernel
theorem dksX3_puts0_1 : cX3_puts0.data.toList.drop 22 = dktX3_puts0_1 := dk_seg dksX3_puts0_0 22 rfl rfl
theorem dX3_puts0_0 : decode cX3_puts0 0 = .ok (.iload_n 2, 1) := dk_28 (dk_at dksX3_puts0_0 0 rfl rfl)
theorem dX3_puts0_1 : decode cX3_puts0 1 = .ok (.iconst 1, 1) := dk_4 (dk_at dksX3_puts0_0 1 rfl rfl)
theorem dX3_puts0_2 : decode cX3_puts0 2 = .ok (.isub, 1) := dk_100 (dk_at dksX3_puts0_0 2 rfl rfl)
theorem dX3_puts0_3 : decode cX3_puts0 3 = .ok (.istore 4, 2) := dk_54 4 (dk_at dksX3_puts0_0 3 rfl rfl)
theorem dX3_puts0_5 : decode cX3_puts0 5 = .ok (.iload 4, 2) := dk_21 4 (dk_at dksX3_puts0_0 5 rfl rfl)
theorem dX3_puts0_7 : decode cX3_puts0 7 = .ok (.ifCond .lt 18, 3) := dk_155 0 18 (dk_at dksX3_puts0_0 7 rfl rfl)
theorem dX3_puts0_10 : decode cX3_puts0 10 = .ok (.aload_n 0, 1) := dk_42 (dk_at dksX3_puts0_0 10 rfl rfl)
theorem dX3_puts0_11 : decode cX3_puts0 11 = .ok (.iload_n 1, 1) := dk_27 (dk_at dksX3_puts0_0 11 rfl rfl)
theorem dX3_puts0_12 : decode cX3_puts0 12 = .ok (.aload_n 3, 1) := dk_45 (dk_at dksX3_puts0_0 12 rfl rfl)
theorem dX3_puts0_13 : decode cX3_puts0 13 = .ok (.iload 4, 2) := dk_21 4 (dk_at dksX3_puts0_0 13 rfl rfl)
theorem dX3_puts0_15 : decode cX3_puts0 15 = .ok (.iaload, 1) := dk_46 (dk_at dksX3_puts0_0 15 rfl rfl)
theorem dX3_puts0_16 : decode cX3_puts0 16 = .ok (.invokevirtual 72, 3) := dk_182 0 72 (dk_at dksX3_puts0_0 16 rfl rfl)
theorem dX3_puts0_19 : decode cX3_puts0 19 = .ok (.iinc 4 (-1), 3) := dk_132 4 255 (dk_at dksX3_puts0_0 19 rfl rfl)
theorem dX3_puts0_22 : decode cX3_puts0 22 = .ok (.goto (-17), 3) := dk_167 255 239 (dk_at dksX3_puts0_1 0 rfl rfl)
theorem dX3_puts0_25 : decode cX3_puts0 25 = .ok (.return_, 1) := dk_177 (dk_at dksX3_puts0_1 3 rfl rfl)
def dkwX3_sums_4 : List UInt8 := [180, 0, 17, 4, 50, 180, 0, 119, 182, 0, 122, 177]
abbrev dktX3_sums_4 : List UInt8 := dkwX3_sums_4 ++ []
def dkwX3_sums_3 : List UInt8 := [167, 0, 34, 42, 180, 0, 17, 4, 50, 198, 0, 25, 43, 42, 180, 0, 17, 4, 50, 180, 0, 116, 42]
abbrev dktX3_sums_3 : List UInt8 := dkwX3_sums_3 ++ dktX3_sums_4
def dkwX3_sums_2 : List UInt8 := [42, 180, 0, 17, 3, 50, 198, 0, 21, 42, 180, 0, 3, 43, 43, 42, 180, 0, 17, 4, 50, 182, 0, 32]
abbrev dktX3_sums_2 : List UInt8 := dkwX3_sums_2 ++ dktX3_sums_3
def dkwX3_sums_1 : List UInt8 := [180, 0, 116, 42, 180, 0, 17, 3, 50, 180, 0, 119, 182, 0, 122, 42, 180, 0, 17, 4, 50, 198, 0, 30]
abbrev dktX3_sums_1 : List UInt8 := dkwX3_sums_1 ++ dktX3_sums_2
def dkwX3_sums_0 : List UInt8 := [42, 180, 0, 3, 43, 182, 0, 112, 42, 180, 0, 17, 3, 50, 198, 0, 25, 43, 42, 180, 0, 17, 3, 50]
abbrev dktX3_sums_0 : List UInt8 := dkwX3_sums_0 ++ dktX3_sums_1
theorem dksX3_sums_0 : cX3_sums.data.toList.drop 0 = dktX3_sums_0 := by decide +kernel
theorem dksX3_sums_1 : cX3_sums.data.toList.drop 24 = dktX3_sums_1 := dk_seg dksX3_sums_0 24 rfl rfl
theorem dksX3_sums_2 : cX3_sums.data.toList.drop 48 = dktX3_sums_2 := dk_seg dksX3_sums_1 24 rfl rfl
theorem dksX3_sums_3 : cX3_sums.data.toList.drop 72 = dktX3_sums_3 := dk_seg dksX3_sums_2 24 rfl rfl
theorem dksX3_sums_4 : cX3_sums.data.toList.drop 95 = dktX3_sums_4 := dk_seg dksX3_sums_3 23 rfl rfl
theorem dX3_sums_0 : decode cX3_sums 0 = .ok (.aload_n 0, 1) := dk_42 (dk_at dksX3_sums_0 0 rfl rfl)
theorem dX3_sums_1 : decode cX3_sums 1 = .ok (.getfield 3, 3) := dk_180 0 3 (dk_at dksX3_sums_0 1 rfl rfl)
theorem dX3_sums_4 : decode cX3_sums 4 = .ok (.aload_n 1, 1) := dk_43 (dk_at dksX3_sums_0 4 rfl rfl)
theorem dX3_sums_5 : decode cX3_sums 5 = .ok (.invokevirtual 112, 3) := dk_182 0 112 (dk_at dksX3_sums_0 5 rfl rfl)
theorem dX3_sums_8 : decode cX3_sums 8 = .ok (.aload_n 0, 1) := dk_42 (dk_at dksX3_sums_0 8 rfl rfl)
theorem dX3_sums_9 : decode cX3_sums 9 = .ok (.getfield 17, 3) := dk_180 0 17 (dk_at dksX3_sums_0 9 rfl rfl)
theorem dX3_sums_12 : decode cX3_sums 12 = .ok (.iconst 0, 1) := dk_3 (dk_at dksX3_sums_0 12 rfl rfl)
theorem dX3_sums_13 : decode cX3_sums 13 = .ok (.aaload, 1) := dk_50 (dk_at dksX3_sums_0 13 rfl rfl)
theorem dX3_sums_14 : decode cX3_sums 14 = .ok (.ifnull 25, 3) := dk_198 0 25 (dk_at dksX3_sums_0 14 rfl rfl)
theorem dX3_sums_17 : decode cX3_sums 17 = .ok (.aload_n 1, 1) := dk_43 (dk_at dksX3_sums_0 17 rfl rfl)
theorem dX3_sums_18 : decode cX3_sums 18 = .ok (.aload_n 0, 1) := dk_42 (dk_at dksX3_sums_0 18 rfl rfl)
theorem dX3_sums_19 : decode cX3_sums 19 = .ok (.getfield 17, 3) := dk_180 0 17 (dk_at dksX3_sums_0 19 rfl rfl)
theorem dX3_sums_22 : decode cX3_sums 22 = .ok (.iconst 0, 1) := dk_3 (dk_at dksX3_sums_0 22 rfl rfl)
theorem dX3_sums_23 : decode cX3_sums 23 = .ok (.aaload, 1) := dk_50 (dk_at dksX3_sums_0 23 rfl rfl)
theorem dX3_sums_24 : decode cX3_sums 24 = .ok (.getfield 116, 3) := dk_180 0 116 (dk_at dksX3_sums_1 0 rfl rfl)
theorem dX3_sums_27 : decode cX3_sums 27 = .ok (.aload_n 0, 1) := dk_42 (dk_at dksX3_sums_1 3 rfl rfl)
theorem dX3_sums_28 : decode cX3_sums 28 = .ok (.getfield 17, 3) := dk_180 0 17 (dk_at dksX3_sums_1 4 rfl rfl)
theorem dX3_sums_31 : decode cX3_sums 31 = .ok (.iconst 0, 1) := dk_3 (dk_at dksX3_sums_1 7 rfl rfl)
theorem dX3_sums_32 : decode cX3_sums 32 = .ok (.aaload, 1) := dk_50 (dk_at dksX3_sums_1 8 rfl rfl)
theorem dX3_sums_33 : decode cX3_sums 33 = .ok (.getfield 119, 3) := dk_180 0 119 (dk_at dksX3_sums_1 9 rfl rfl)
theorem dX3_sums_36 : decode cX3_sums 36 = .ok (.invokevirtual 122, 3) := dk_182 0 122 (dk_at dksX3_sums_1 12 rfl rfl)
theorem dX3_sums_39 : decode cX3_sums 39 = .ok (.aload_n 0, 1) := dk_42 (dk_at dksX3_sums_1 15 rfl rfl)
theorem dX3_sums_40 : decode cX3_sums 40 = .ok (.getfield 17, 3) := dk_180 0 17 (dk_at dksX3_sums_1 16 rfl rfl)
theorem dX3_sums_43 : decode cX3_sums 43 = .ok (.iconst 1, 1) := dk_4 (dk_at dksX3_sums_1 19 rfl rfl)
theorem dX3_sums_44 : decode cX3_sums 44 = .ok (.aaload, 1) := dk_50 (dk_at dksX3_sums_1 20 rfl rfl)
theorem dX3_sums_45 : decode cX3_sums 45 = .ok (.ifnull 30, 3) := dk_198 0 30 (dk_at dksX3_sums_1 21 rfl rfl)
theorem dX3_sums_48 : decode cX3_sums 48 = .ok (.aload_n 0, 1) := dk_42 (dk_at dksX3_sums_2 0 rfl rfl)
theorem dX3_sums_49 : decode cX3_sums 49 = .ok (.getfield 17, 3) := dk_180 0 17 (dk_at dksX3_sums_2 1 rfl rfl)
theorem dX3_sums_52 : decode cX3_sums 52 = .ok (.iconst 0, 1) := dk_3 (dk_at dksX3_sums_2 4 rfl rfl)
theorem dX3_sums_53 : decode cX3_sums 53 = .ok (.aaload, 1) := dk_50 (dk_at dksX3_sums_2 5 rfl rfl)
theorem dX3_sums_54 : decode cX3_sums 54 = .ok (.ifnull 21, 3) := dk_198 0 21 (dk_at dksX3_sums_2 6 rfl rfl)
theorem dX3_sums_57 : decode cX3_sums 57 = .ok (.aload_n 0, 1) := dk_42 (dk_at dksX3_sums_2 9 rfl rfl)
theorem dX3_sums_58 : decode cX3_sums 58 = .ok (.getfield 3, 3) := dk_180 0 3 (dk_at dksX3_sums_2 10 rfl rfl)
theorem dX3_sums_61 : decode cX3_sums 61 = .ok (.aload_n 1, 1) := dk_43 (dk_at dksX3_sums_2 13 rfl rfl)
theorem dX3_sums_62 : decode cX3_sums 62 = .ok (.aload_n 1, 1) := dk_43 (dk_at dksX3_sums_2 14 rfl rfl)
theorem dX3_sums_63 : decode cX3_sums 63 = .ok (.aload_n 0, 1) := dk_42 (dk_at dksX3_sums_2 15 rfl rfl)
theorem dX3_sums_64 : decode cX3_sums 64 = .ok (.getfield 17, 3) := dk_180 0 17 (dk_at dksX3_sums_2 16 rfl rfl)
theorem dX3_sums_67 : decode cX3_sums 67 = .ok (.iconst 1, 1) := dk_4 (dk_at dksX3_sums_2 19 rfl rfl)
theorem dX3_sums_68 : decode cX3_sums 68 = .ok (.aaload, 1) := dk_50 (dk_at dksX3_sums_2 20 rfl rfl)
theorem dX3_sums_69 : decode cX3_sums 69 = .ok (.invokevirtual 32, 3) := dk_182 0 32 (dk_at dksX3_sums_2 21 rfl rfl)
theorem dX3_sums_72 : decode cX3_sums 72 = .ok (.goto 34, 3) := dk_167 0 34 (dk_at dksX3_sums_3 0 rfl rfl)
theorem dX3_sums_75 : decode cX3_sums 75 = .ok (.aload_n 0, 1) := dk_42 (dk_at dksX3_sums_3 3 rfl rfl)
theorem dX3_sums_76 : decode cX3_sums 76 = .ok (.getfield 17, 3) := dk_180 0 17 (dk_at dksX3_sums_3 4 rfl rfl)
theorem dX3_sums_79 : decode cX3_sums 79 = .ok (.iconst 1, 1) := dk_4 (dk_at dksX3_sums_3 7 rfl rfl)
theorem dX3_sums_80 : decode cX3_sums 80 = .ok (.aaload, 1) := dk_50 (dk_at dksX3_sums_3 8 rfl rfl)
theorem dX3_sums_81 : decode cX3_sums 81 = .ok (.ifnull 25, 3) := dk_198 0 25 (dk_at dksX3_sums_3 9 rfl rfl)
theorem dX3_sums_84 : decode cX3_sums 84 = .ok (.aload_n 1, 1) := dk_43 (dk_at dksX3_sums_3 12 rfl rfl)
theorem dX3_sums_85 : decode cX3_sums 85 = .ok (.aload_n 0, 1) := dk_42 (dk_at dksX3_sums_3 13 rfl rfl)
theorem dX3_sums_86 : decode cX3_sums 86 = .ok (.getfield 17, 3) := dk_180 0 17 (dk_at dksX3_sums_3 14 rfl rfl)
theorem dX3_sums_89 : decode cX3_sums 89 = .ok (.iconst 1, 1) := dk_4 (dk_at dksX3_sums_3 17 rfl rfl)
theorem dX3_sums_90 : decode cX3_sums 90 = .ok (.aaload, 1) := dk_50 (dk_at dksX3_sums_3 18 rfl rfl)
theorem dX3_sums_91 : decode cX3_sums 91 = .ok (.getfield 116, 3) := dk_180 0 116 (dk_at dksX3_sums_3 19 rfl rfl)
theorem dX3_sums_94 : decode cX3_sums 94 = .ok (.aload_n 0, 1) := dk_42 (dk_at dksX3_sums_3 22 rfl rfl)
theorem dX3_sums_95 : decode cX3_sums 95 = .ok (.getfield 17, 3) := dk_180 0 17 (dk_at dksX3_sums_4 0 rfl rfl)
theorem dX3_sums_98 : decode cX3_sums 98 = .ok (.iconst 1, 1) := dk_4 (dk_at dksX3_sums_4 3 rfl rfl)
theorem dX3_sums_99 : decode cX3_sums 99 = .ok (.aaload, 1) := dk_50 (dk_at dksX3_sums_4 4 rfl rfl)
theorem dX3_sums_100 : decode cX3_sums 100 = .ok (.getfield 119, 3) := dk_180 0 119 (dk_at dksX3_sums_4 5 rfl rfl)
theorem dX3_sums_103 : decode cX3_sums 103 = .ok (.invokevirtual 122, 3) := dk_182 0 122 (dk_at dksX3_sums_4 8 rfl rfl)
theorem dX3_sums_106 : decode cX3_sums 106 = .ok (.return_, 1) := dk_177 (dk_at dksX3_sums_4 11 rfl rfl)
def dkwX5_init_0 : List UInt8 := [42, 183, 0, 1, 42, 27, 181, 0, 7, 42, 44, 181, 0, 13, 177]
abbrev dktX5_init_0 : List UInt8 := dkwX5_init_0 ++ []
theorem dksX5_init_0 : cX5_init.data.toList.drop 0 = dktX5_init_0 := by decide +kernel
theorem dX5_init_0 : decode cX5_init 0 = .ok (.aload_n 0, 1) := dk_42 (dk_at dksX5_init_0 0 rfl rfl)
theorem dX5_init_1 : decode cX5_init 1 = .ok (.invokespecial 1, 3) := dk_183 0 1 (dk_at dksX5_init_0 1 rfl rfl)
theorem dX5_init_4 : decode cX5_init 4 = .ok (.aload_n 0, 1) := dk_42 (dk_at dksX5_init_0 4 rfl rfl)
theorem dX5_init_5 : decode cX5_init 5 = .ok (.iload_n 1, 1) := dk_27 (dk_at dksX5_init_0 5 rfl rfl)
theorem dX5_init_6 : decode cX5_init 6 = .ok (.putfield 7, 3) := dk_181 0 7 (dk_at dksX5_init_0 6 rfl rfl)
theorem dX5_init_9 : decode cX5_init 9 = .ok (.aload_n 0, 1) := dk_42 (dk_at dksX5_init_0 9 rfl rfl)
theorem dX5_init_10 : decode cX5_init 10 = .ok (.aload_n 2, 1) := dk_44 (dk_at dksX5_init_0 10 rfl rfl)
theorem dX5_init_11 : decode cX5_init 11 = .ok (.putfield 13, 3) := dk_181 0 13 (dk_at dksX5_init_0 11 rfl rfl)
theorem dX5_init_14 : decode cX5_init 14 = .ok (.return_, 1) := dk_177 (dk_at dksX5_init_0 14 rfl rfl)
def dkwX6_init_0 : List UInt8 := [42, 183, 0, 1, 42, 27, 181, 0, 7, 177]
abbrev dktX6_init_0 : List UInt8 := dkwX6_init_0 ++ []
theorem dksX6_init_0 : cX6_init.data.toList.drop 0 = dktX6_init_0 := by decide +kernel
theorem dX6_init_0 : decode cX6_init 0 = .ok (.aload_n 0, 1) := dk_42 (dk_at dksX6_init_0 0 rfl rfl)
theorem dX6_init_1 : decode cX6_init 1 = .ok (.invokespecial 1, 3) := dk_183 0 1 (dk_at dksX6_init_0 1 rfl rfl)
theorem dX6_init_4 : decode cX6_init 4 = .ok (.aload_n 0, 1) := dk_42 (dk_at dksX6_init_0 4 rfl rfl)
theorem dX6_init_5 : decode cX6_init 5 = .ok (.iload_n 1, 1) := dk_27 (dk_at dksX6_init_0 5 rfl rfl)
theorem dX6_init_6 : decode cX6_init 6 = .ok (.putfield 7, 3) := dk_181 0 7 (dk_at dksX6_init_0 6 rfl rfl)
theorem dX6_init_9 : decode cX6_init 9 = .ok (.return_, 1) := dk_177 (dk_at dksX6_init_0 9 rfl rfl)
def dkwL_law_57 : List UInt8 := [167, 250, 87, 4, 172]
abbrev dktL_law_57 : List UInt8 := dkwL_law_57 ++ []
def dkwL_law_56 : List UInt8 := [172, 21, 5, 154, 0, 14, 45, 3, 47, 22, 6, 148, 153, 0, 5, 3, 172, 167, 0, 3, 132, 4, 4]
abbrev dktL_law_56 : List UInt8 := dkwL_law_56 ++ dktL_law_57
def dkwL_law_55 : List UInt8 := [54, 5, 44, 42, 21, 4, 4, 96, 46, 182, 0, 175, 55, 6, 44, 182, 0, 117, 21, 5, 159, 0, 5, 3]
abbrev dktL_law_55 : List UInt8 := dkwL_law_55 ++ dktL_law_56
def dkwL_law_54 : List UInt8 := [21, 4, 4, 96, 46, 182, 0, 171, 159, 0, 60, 3, 172, 43, 42, 21, 4, 4, 96, 46, 45, 184, 0, 172]
abbrev dktL_law_54 : List UInt8 := dkwL_law_54 ++ dktL_law_55
def dkwL_law_53 : List UInt8 := [5, 96, 46, 182, 0, 167, 159, 0, 85, 3, 172, 43, 42, 21, 4, 4, 96, 46, 182, 0, 168, 44, 42]
abbrev dktL_law_53 : List UInt8 := dkwL_law_53 ++ dktL_law_54
def dkwL_law_52 : List UInt8 := [21, 4, 4, 96, 46, 42, 21, 4, 5, 96, 46, 182, 0, 164, 44, 42, 21, 4, 4, 96, 46, 42, 21, 4]
abbrev dktL_law_52 : List UInt8 := dkwL_law_52 ++ dktL_law_53
def dkwL_law_51 : List UInt8 := [44, 42, 21, 4, 4, 96, 46, 42, 21, 4, 5, 96, 46, 182, 0, 163, 159, 0, 122, 3, 172, 43, 42]
abbrev dktL_law_51 : List UInt8 := dkwL_law_51 ++ dktL_law_52
def dkwL_law_50 : List UInt8 := [182, 0, 159, 159, 0, 159, 3, 172, 43, 42, 21, 4, 4, 96, 46, 42, 21, 4, 5, 96, 46, 182, 0, 160]
abbrev dktL_law_50 : List UInt8 := dkwL_law_50 ++ dktL_law_51
def dkwL_law_49 : List UInt8 := [21, 4, 4, 96, 46, 42, 21, 4, 5, 96, 46, 182, 0, 155, 159, 0, 172, 3, 172, 43, 182, 0, 156, 44]
abbrev dktL_law_49 : List UInt8 := dkwL_law_49 ++ dktL_law_50
def dkwL_law_48 : List UInt8 := [159, 0, 209, 3, 172, 43, 42, 21, 4, 4, 96, 46, 42, 21, 4, 5, 96, 46, 182, 0, 152, 44, 42]
abbrev dktL_law_48 : List UInt8 := dkwL_law_48 ++ dktL_law_49
def dkwL_law_47 : List UInt8 := [3, 172, 43, 42, 21, 4, 4, 96, 46, 182, 0, 148, 44, 42, 21, 4, 4, 96, 46, 182, 0, 151]
abbrev dktL_law_47 : List UInt8 := dkwL_law_47 ++ dktL_law_48
def dkwL_law_46 : List UInt8 := [172, 43, 42, 21, 4, 4, 96, 46, 182, 0, 144, 44, 42, 21, 4, 4, 96, 46, 182, 0, 147, 159, 0, 234]
abbrev dktL_law_46 : List UInt8 := dkwL_law_46 ++ dktL_law_47
def dkwL_law_45 : List UInt8 := [21, 4, 4, 96, 46, 42, 21, 4, 5, 96, 46, 42, 21, 4, 6, 96, 46, 182, 0, 143, 159, 1, 3, 3]
abbrev dktL_law_45 : List UInt8 := dkwL_law_45 ++ dktL_law_46
def dkwL_law_44 : List UInt8 := [43, 42, 21, 4, 4, 96, 46, 42, 21, 4, 5, 96, 46, 42, 21, 4, 6, 96, 46, 182, 0, 140, 44, 42]
abbrev dktL_law_44 : List UInt8 := dkwL_law_44 ++ dktL_law_45
def dkwL_law_43 : List UInt8 := [182, 0, 136, 44, 42, 21, 4, 4, 96, 46, 42, 21, 4, 5, 96, 46, 182, 0, 139, 159, 1, 52, 3, 172]
abbrev dktL_law_43 : List UInt8 := dkwL_law_43 ++ dktL_law_44
def dkwL_law_42 : List UInt8 := [5, 96, 46, 182, 0, 135, 159, 1, 89, 3, 172, 43, 42, 21, 4, 4, 96, 46, 42, 21, 4, 5, 96, 46]
abbrev dktL_law_42 : List UInt8 := dkwL_law_42 ++ dktL_law_43
def dkwL_law_41 : List UInt8 := [21, 4, 4, 96, 46, 42, 21, 4, 5, 96, 46, 182, 0, 132, 44, 42, 21, 4, 4, 96, 46, 42, 21, 4]
abbrev dktL_law_41 : List UInt8 := dkwL_law_41 ++ dktL_law_42
def dkwL_law_40 : List UInt8 := [44, 42, 21, 4, 4, 96, 46, 42, 21, 4, 5, 96, 46, 182, 0, 131, 159, 1, 126, 3, 172, 43, 42]
abbrev dktL_law_40 : List UInt8 := dkwL_law_40 ++ dktL_law_41
def dkwL_law_39 : List UInt8 := [182, 0, 127, 159, 1, 163, 3, 172, 43, 42, 21, 4, 4, 96, 46, 42, 21, 4, 5, 96, 46, 182, 0, 128]
abbrev dktL_law_39 : List UInt8 := dkwL_law_39 ++ dktL_law_40
def dkwL_law_38 : List UInt8 := [42, 21, 4, 5, 96, 46, 182, 0, 124, 44, 42, 21, 4, 4, 96, 46, 42, 21, 4, 5, 96, 46]
abbrev dktL_law_38 : List UInt8 := dkwL_law_38 ++ dktL_law_39
def dkwL_law_37 : List UInt8 := [5, 96, 46, 42, 21, 4, 6, 96, 46, 182, 0, 123, 159, 1, 200, 3, 172, 43, 42, 21, 4, 4, 96, 46]
abbrev dktL_law_37 : List UInt8 := dkwL_law_37 ++ dktL_law_38
def dkwL_law_36 : List UInt8 := [21, 4, 5, 96, 46, 42, 21, 4, 6, 96, 46, 182, 0, 120, 44, 42, 21, 4, 4, 96, 46, 42, 21, 4]
abbrev dktL_law_36 : List UInt8 := dkwL_law_36 ++ dktL_law_37
def dkwL_law_35 : List UInt8 := [45, 3, 47, 21, 6, 133, 148, 153, 0, 5, 3, 172, 167, 1, 247, 43, 42, 21, 4, 4, 96, 46, 42]
abbrev dktL_law_35 : List UInt8 := dkwL_law_35 ++ dktL_law_36
def dkwL_law_34 : List UInt8 := [5, 96, 46, 182, 0, 116, 54, 6, 44, 182, 0, 117, 21, 5, 159, 0, 5, 3, 172, 21, 5, 154, 0, 15]
abbrev dktL_law_34 : List UInt8 := dkwL_law_34 ++ dktL_law_35
def dkwL_law_33 : List UInt8 := [96, 46, 42, 21, 4, 5, 96, 46, 45, 184, 0, 111, 54, 5, 44, 42, 21, 4, 4, 96, 46, 42, 21, 4]
abbrev dktL_law_33 : List UInt8 := dkwL_law_33 ++ dktL_law_34
def dkwL_law_32 : List UInt8 := [46, 182, 0, 107, 44, 42, 21, 4, 4, 96, 46, 182, 0, 110, 159, 2, 61, 3, 172, 43, 42, 21, 4, 4]
abbrev dktL_law_32 : List UInt8 := dkwL_law_32 ++ dktL_law_33
def dkwL_law_31 : List UInt8 := [182, 0, 102, 44, 42, 21, 4, 4, 96, 46, 182, 0, 106, 159, 2, 86, 3, 172, 43, 42, 21, 4, 4, 96]
abbrev dktL_law_31 : List UInt8 := dkwL_law_31 ++ dktL_law_32
def dkwL_law_30 : List UInt8 := [44, 42, 21, 4, 4, 96, 46, 182, 0, 101, 159, 2, 111, 3, 172, 43, 42, 21, 4, 4, 96, 46]
abbrev dktL_law_30 : List UInt8 := dkwL_law_30 ++ dktL_law_31
def dkwL_law_29 : List UInt8 := [42, 21, 4, 4, 96, 46, 182, 0, 97, 159, 2, 136, 3, 172, 43, 42, 21, 4, 4, 96, 46, 182, 0, 98]
abbrev dktL_law_29 : List UInt8 := dkwL_law_29 ++ dktL_law_30
def dkwL_law_28 : List UInt8 := [21, 4, 4, 96, 46, 182, 0, 93, 159, 2, 161, 3, 172, 43, 42, 21, 4, 4, 96, 46, 182, 0, 94, 44]
abbrev dktL_law_28 : List UInt8 := dkwL_law_28 ++ dktL_law_29
def dkwL_law_27 : List UInt8 := [6, 96, 46, 182, 0, 89, 159, 2, 186, 3, 172, 43, 42, 21, 4, 4, 96, 46, 182, 0, 90, 44, 42]
abbrev dktL_law_27 : List UInt8 := dkwL_law_27 ++ dktL_law_28
def dkwL_law_26 : List UInt8 := [21, 4, 6, 96, 46, 182, 0, 86, 44, 42, 21, 4, 4, 96, 46, 42, 21, 4, 5, 96, 46, 42, 21, 4]
abbrev dktL_law_26 : List UInt8 := dkwL_law_26 ++ dktL_law_27
def dkwL_law_25 : List UInt8 := [46, 182, 0, 85, 159, 2, 235, 3, 172, 43, 42, 21, 4, 4, 96, 46, 42, 21, 4, 5, 96, 46, 42]
abbrev dktL_law_25 : List UInt8 := dkwL_law_25 ++ dktL_law_26
def dkwL_law_24 : List UInt8 := [4, 96, 46, 42, 21, 4, 5, 96, 46, 182, 0, 82, 44, 42, 21, 4, 4, 96, 46, 42, 21, 4, 5, 96]
abbrev dktL_law_24 : List UInt8 := dkwL_law_24 ++ dktL_law_25
def dkwL_law_23 : List UInt8 := [42, 21, 4, 5, 96, 46, 42, 21, 4, 6, 96, 46, 182, 0, 81, 159, 3, 16, 3, 172, 43, 42, 21, 4]
abbrev dktL_law_23 : List UInt8 := dkwL_law_23 ++ dktL_law_24
def dkwL_law_22 : List UInt8 := [96, 46, 42, 21, 4, 5, 96, 46, 42, 21, 4, 6, 96, 46, 182, 0, 78, 44, 42, 21, 4, 4, 96, 46]
abbrev dktL_law_22 : List UInt8 := dkwL_law_22 ++ dktL_law_23
def dkwL_law_21 : List UInt8 := [21, 4, 5, 96, 46, 42, 21, 4, 6, 96, 46, 182, 0, 77, 159, 3, 65, 3, 172, 43, 42, 21, 4, 4]
abbrev dktL_law_21 : List UInt8 := dkwL_law_21 ++ dktL_law_22
def dkwL_law_20 : List UInt8 := [46, 42, 21, 4, 5, 96, 46, 42, 21, 4, 6, 96, 46, 182, 0, 74, 44, 42, 21, 4, 4, 96, 46, 42]
abbrev dktL_law_20 : List UInt8 := dkwL_law_20 ++ dktL_law_21
def dkwL_law_19 : List UInt8 := [182, 0, 70, 44, 42, 21, 4, 4, 96, 46, 182, 0, 73, 159, 3, 114, 3, 172, 43, 42, 21, 4, 4, 96]
abbrev dktL_law_19 : List UInt8 := dkwL_law_19 ++ dktL_law_20
def dkwL_law_18 : List UInt8 := [5, 96, 46, 42, 21, 4, 6, 96, 46, 182, 0, 69, 159, 3, 139, 3, 172, 43, 42, 21, 4, 4, 96, 46]
abbrev dktL_law_18 : List UInt8 := dkwL_law_18 ++ dktL_law_19
def dkwL_law_17 : List UInt8 := [21, 4, 5, 96, 46, 42, 21, 4, 6, 96, 46, 182, 0, 66, 44, 42, 21, 4, 4, 96, 46, 42, 21, 4]
abbrev dktL_law_17 : List UInt8 := dkwL_law_17 ++ dktL_law_18
def dkwL_law_16 : List UInt8 := [46, 42, 21, 4, 5, 96, 46, 182, 0, 65, 159, 3, 188, 3, 172, 43, 42, 21, 4, 4, 96, 46, 42]
abbrev dktL_law_16 : List UInt8 := dkwL_law_16 ++ dktL_law_17
def dkwL_law_15 : List UInt8 := [3, 172, 43, 42, 21, 4, 4, 96, 46, 42, 21, 4, 5, 96, 46, 182, 0, 62, 44, 42, 21, 4, 4, 96]
abbrev dktL_law_15 : List UInt8 := dkwL_law_15 ++ dktL_law_16
def dkwL_law_14 : List UInt8 := [96, 46, 182, 0, 58, 44, 42, 21, 4, 4, 96, 46, 42, 21, 4, 5, 96, 46, 182, 0, 61, 159, 3, 225]
abbrev dktL_law_14 : List UInt8 := dkwL_law_14 ++ dktL_law_15
def dkwL_law_13 : List UInt8 := [21, 4, 5, 96, 46, 182, 0, 57, 159, 4, 6, 3, 172, 43, 42, 21, 4, 4, 96, 46, 42, 21, 4, 5]
abbrev dktL_law_13 : List UInt8 := dkwL_law_13 ++ dktL_law_14
def dkwL_law_12 : List UInt8 := [42, 21, 4, 4, 96, 46, 42, 21, 4, 5, 96, 46, 182, 0, 54, 44, 42, 21, 4, 4, 96, 46, 42]
abbrev dktL_law_12 : List UInt8 := dkwL_law_12 ++ dktL_law_13
def dkwL_law_11 : List UInt8 := [4, 96, 46, 42, 21, 4, 5, 96, 46, 42, 21, 4, 6, 96, 46, 182, 0, 53, 159, 4, 43, 3, 172, 43]
abbrev dktL_law_11 : List UInt8 := dkwL_law_11 ++ dktL_law_12
def dkwL_law_10 : List UInt8 := [21, 4, 4, 96, 46, 42, 21, 4, 5, 96, 46, 42, 21, 4, 6, 96, 46, 182, 0, 49, 44, 42, 21, 4]
abbrev dktL_law_10 : List UInt8 := dkwL_law_10 ++ dktL_law_11
def dkwL_law_9 : List UInt8 := [4, 96, 46, 182, 0, 45, 44, 42, 21, 4, 4, 96, 46, 182, 0, 48, 159, 4, 92, 3, 172, 43, 42]
abbrev dktL_law_9 : List UInt8 := dkwL_law_9 ++ dktL_law_10
def dkwL_law_8 : List UInt8 := [96, 46, 182, 0, 41, 44, 42, 21, 4, 4, 96, 46, 182, 0, 44, 159, 4, 117, 3, 172, 43, 42, 21, 4]
abbrev dktL_law_8 : List UInt8 := dkwL_law_8 ++ dktL_law_9
def dkwL_law_7 : List UInt8 := [21, 4, 4, 96, 46, 42, 21, 4, 5, 96, 46, 182, 0, 40, 159, 4, 142, 3, 172, 43, 42, 21, 4, 4]
abbrev dktL_law_7 : List UInt8 := dkwL_law_7 ++ dktL_law_8
def dkwL_law_6 : List UInt8 := [159, 4, 179, 3, 172, 43, 42, 21, 4, 4, 96, 46, 42, 21, 4, 5, 96, 46, 182, 0, 37, 44, 42]
abbrev dktL_law_6 : List UInt8 := dkwL_law_6 ++ dktL_law_7
def dkwL_law_5 : List UInt8 := [5, 96, 46, 182, 0, 33, 44, 42, 21, 4, 4, 96, 46, 42, 21, 4, 5, 96, 46, 182, 0, 36]
abbrev dktL_law_5 : List UInt8 := dkwL_law_5 ++ dktL_law_6
def dkwL_law_4 : List UInt8 := [172, 43, 182, 0, 28, 44, 182, 0, 32, 159, 4, 216, 3, 172, 43, 42, 21, 4, 4, 96, 46, 42, 21, 4]
abbrev dktL_law_4 : List UInt8 := dkwL_law_4 ++ dktL_law_5
def dkwL_law_3 : List UInt8 := [43, 42, 21, 4, 4, 96, 46, 182, 0, 23, 44, 42, 21, 4, 4, 96, 46, 182, 0, 27, 159, 4, 229, 3]
abbrev dktL_law_3 : List UInt8 := dkwL_law_3 ++ dktL_law_4
def dkwL_law_2 : List UInt8 := [170, 0, 0, 5, 150, 0, 0, 0, 0, 0, 0, 0, 35, 0, 0, 0, 157, 0, 0, 0, 182, 0, 0, 0, 195, 0, 0, 0, 232, 0, 0, 1, 13, 0, 0, 1, 38, 0, 0, 1, 63, 0, 0, 1, 112, 0, 0, 1, 149, 0, 0, 1, 186, 0, 0, 1, 223, 0, 0, 2, 16, 0, 0, 2, 41, 0, 0, 2, 90, 0, 0, 2, 139, 0, 0, 2, 176, 0, 0, 2, 225, 0, 0, 2, 250, 0, 0, 3, 19, 0, 0, 3, 44, 0, 0, 3, 69, 0, 0, 3, 94, 0, 0, 3, 162, 0, 0, 3, 211, 0, 0, 3, 248, 0, 0, 4, 29, 0, 0, 4, 66, 0, 0, 4, 103, 0, 0, 4, 152, 0, 0, 4, 177, 0, 0, 4, 202, 0, 0, 4, 239, 0, 0, 4, 252, 0, 0, 5, 33, 0, 0, 5, 70, 0, 0, 5, 95]
abbrev dktL_law_2 : List UInt8 := dkwL_law_2 ++ dktL_law_3
def dkwL_law_1 : List UInt8 := [21, 4, 42, 190, 7, 100, 163, 5, 166, 42, 21, 4, 46, 16, 63, 126]
abbrev dktL_law_1 : List UInt8 := dkwL_law_1 ++ dktL_law_2
def dkwL_law_0 : List UInt8 := [187, 0, 8, 89, 183, 0, 19, 76, 187, 0, 20, 89, 183, 0, 22, 77, 4, 188, 11, 78, 3, 54, 4]
abbrev dktL_law_0 : List UInt8 := dkwL_law_0 ++ dktL_law_1
theorem dksL_law_0 : cL_law.data.toList.drop 0 = dktL_law_0 := by decide +kernel
theorem dksL_law_1 : cL_law.data.toList.drop 23 = dktL_law_1 := dk_seg dksL_law_0 23 rfl rfl
theorem dksL_law_2 : cL_law.data.toList.drop 39 = dktL_law_2 := dk_seg dksL_law_1 16 rfl rfl
theorem dksL_law_3 : cL_law.data.toList.drop 196 = dktL_law_3 := dk_seg dksL_law_2 157 rfl rfl
theorem dksL_law_4 : cL_law.data.toList.drop 220 = dktL_law_4 := dk_seg dksL_law_3 24 rfl rfl
theorem dksL_law_5 : cL_law.data.toList.drop 244 = dktL_law_5 := dk_seg dksL_law_4 24 rfl rfl
theorem dksL_law_6 : cL_law.data.toList.drop 266 = dktL_law_6 := dk_seg dksL_law_5 22 rfl rfl
theorem dksL_law_7 : cL_law.data.toList.drop 289 = dktL_law_7 := dk_seg dksL_law_6 23 rfl rfl
theorem dksL_law_8 : cL_law.data.toList.drop 313 = dktL_law_8 := dk_seg dksL_law_7 24 rfl rfl
theorem dksL_law_9 : cL_law.data.toList.drop 337 = dktL_law_9 := dk_seg dksL_law_8 24 rfl rfl
theorem dksL_law_10 : cL_law.data.toList.drop 360 = dktL_law_10 := dk_seg dksL_law_9 23 rfl rfl
theorem dksL_law_11 : cL_law.data.toList.drop 384 = dktL_law_11 := dk_seg dksL_law_10 24 rfl rfl
theorem dksL_law_12 : cL_law.data.toList.drop 408 = dktL_law_12 := dk_seg dksL_law_11 24 rfl rfl
theorem dksL_law_13 : cL_law.data.toList.drop 431 = dktL_law_13 := dk_seg dksL_law_12 23 rfl rfl
theorem dksL_law_14 : cL_law.data.toList.drop 455 = dktL_law_14 := dk_seg dksL_law_13 24 rfl rfl
theorem dksL_law_15 : cL_law.data.toList.drop 479 = dktL_law_15 := dk_seg dksL_law_14 24 rfl rfl
theorem dksL_law_16 : cL_law.data.toList.drop 503 = dktL_law_16 := dk_seg dksL_law_15 24 rfl rfl
theorem dksL_law_17 : cL_law.data.toList.drop 526 = dktL_law_17 := dk_seg dksL_law_16 23 rfl rfl
theorem dksL_law_18 : cL_law.data.toList.drop 550 = dktL_law_18 := dk_seg dksL_law_17 24 rfl rfl
theorem dksL_law_19 : cL_law.data.toList.drop 574 = dktL_law_19 := dk_seg dksL_law_18 24 rfl rfl
theorem dksL_law_20 : cL_law.data.toList.drop 598 = dktL_law_20 := dk_seg dksL_law_19 24 rfl rfl
theorem dksL_law_21 : cL_law.data.toList.drop 622 = dktL_law_21 := dk_seg dksL_law_20 24 rfl rfl
theorem dksL_law_22 : cL_law.data.toList.drop 646 = dktL_law_22 := dk_seg dksL_law_21 24 rfl rfl
theorem dksL_law_23 : cL_law.data.toList.drop 670 = dktL_law_23 := dk_seg dksL_law_22 24 rfl rfl
theorem dksL_law_24 : cL_law.data.toList.drop 694 = dktL_law_24 := dk_seg dksL_law_23 24 rfl rfl
theorem dksL_law_25 : cL_law.data.toList.drop 718 = dktL_law_25 := dk_seg dksL_law_24 24 rfl rfl
theorem dksL_law_26 : cL_law.data.toList.drop 741 = dktL_law_26 := dk_seg dksL_law_25 23 rfl rfl
theorem dksL_law_27 : cL_law.data.toList.drop 765 = dktL_law_27 := dk_seg dksL_law_26 24 rfl rfl
theorem dksL_law_28 : cL_law.data.toList.drop 788 = dktL_law_28 := dk_seg dksL_law_27 23 rfl rfl
theorem dksL_law_29 : cL_law.data.toList.drop 812 = dktL_law_29 := dk_seg dksL_law_28 24 rfl rfl
theorem dksL_law_30 : cL_law.data.toList.drop 836 = dktL_law_30 := dk_seg dksL_law_29 24 rfl rfl
theorem dksL_law_31 : cL_law.data.toList.drop 858 = dktL_law_31 := dk_seg dksL_law_30 22 rfl rfl
theorem dksL_law_32 : cL_law.data.toList.drop 882 = dktL_law_32 := dk_seg dksL_law_31 24 rfl rfl
theorem dksL_law_33 : cL_law.data.toList.drop 906 = dktL_law_33 := dk_seg dksL_law_32 24 rfl rfl
theorem dksL_law_34 : cL_law.data.toList.drop 930 = dktL_law_34 := dk_seg dksL_law_33 24 rfl rfl
theorem dksL_law_35 : cL_law.data.toList.drop 954 = dktL_law_35 := dk_seg dksL_law_34 24 rfl rfl
theorem dksL_law_36 : cL_law.data.toList.drop 977 = dktL_law_36 := dk_seg dksL_law_35 23 rfl rfl
theorem dksL_law_37 : cL_law.data.toList.drop 1001 = dktL_law_37 := dk_seg dksL_law_36 24 rfl rfl
theorem dksL_law_38 : cL_law.data.toList.drop 1025 = dktL_law_38 := dk_seg dksL_law_37 24 rfl rfl
theorem dksL_law_39 : cL_law.data.toList.drop 1047 = dktL_law_39 := dk_seg dksL_law_38 22 rfl rfl
theorem dksL_law_40 : cL_law.data.toList.drop 1071 = dktL_law_40 := dk_seg dksL_law_39 24 rfl rfl
theorem dksL_law_41 : cL_law.data.toList.drop 1094 = dktL_law_41 := dk_seg dksL_law_40 23 rfl rfl
theorem dksL_law_42 : cL_law.data.toList.drop 1118 = dktL_law_42 := dk_seg dksL_law_41 24 rfl rfl
theorem dksL_law_43 : cL_law.data.toList.drop 1142 = dktL_law_43 := dk_seg dksL_law_42 24 rfl rfl
theorem dksL_law_44 : cL_law.data.toList.drop 1166 = dktL_law_44 := dk_seg dksL_law_43 24 rfl rfl
theorem dksL_law_45 : cL_law.data.toList.drop 1190 = dktL_law_45 := dk_seg dksL_law_44 24 rfl rfl
theorem dksL_law_46 : cL_law.data.toList.drop 1214 = dktL_law_46 := dk_seg dksL_law_45 24 rfl rfl
theorem dksL_law_47 : cL_law.data.toList.drop 1238 = dktL_law_47 := dk_seg dksL_law_46 24 rfl rfl
theorem dksL_law_48 : cL_law.data.toList.drop 1260 = dktL_law_48 := dk_seg dksL_law_47 22 rfl rfl
theorem dksL_law_49 : cL_law.data.toList.drop 1283 = dktL_law_49 := dk_seg dksL_law_48 23 rfl rfl
theorem dksL_law_50 : cL_law.data.toList.drop 1307 = dktL_law_50 := dk_seg dksL_law_49 24 rfl rfl
theorem dksL_law_51 : cL_law.data.toList.drop 1331 = dktL_law_51 := dk_seg dksL_law_50 24 rfl rfl
theorem dksL_law_52 : cL_law.data.toList.drop 1354 = dktL_law_52 := dk_seg dksL_law_51 23 rfl rfl
theorem dksL_law_53 : cL_law.data.toList.drop 1378 = dktL_law_53 := dk_seg dksL_law_52 24 rfl rfl
theorem dksL_law_54 : cL_law.data.toList.drop 1401 = dktL_law_54 := dk_seg dksL_law_53 23 rfl rfl
theorem dksL_law_55 : cL_law.data.toList.drop 1425 = dktL_law_55 := dk_seg dksL_law_54 24 rfl rfl
theorem dksL_law_56 : cL_law.data.toList.drop 1449 = dktL_law_56 := dk_seg dksL_law_55 24 rfl rfl
theorem dksL_law_57 : cL_law.data.toList.drop 1472 = dktL_law_57 := dk_seg dksL_law_56 23 rfl rfl
theorem dL_law_0 : decode cL_law 0 = .ok (.new 8, 3) := dk_187 0 8 (dk_at dksL_law_0 0 rfl rfl)
theorem dL_law_3 : decode cL_law 3 = .ok (.dup, 1) := dk_89 (dk_at dksL_law_0 3 rfl rfl)
theorem dL_law_4 : decode cL_law 4 = .ok (.invokespecial 19, 3) := dk_183 0 19 (dk_at dksL_law_0 4 rfl rfl)
theorem dL_law_7 : decode cL_law 7 = .ok (.astore_n 1, 1) := dk_76 (dk_at dksL_law_0 7 rfl rfl)
theorem dL_law_8 : decode cL_law 8 = .ok (.new 20, 3) := dk_187 0 20 (dk_at dksL_law_0 8 rfl rfl)
theorem dL_law_11 : decode cL_law 11 = .ok (.dup, 1) := dk_89 (dk_at dksL_law_0 11 rfl rfl)
theorem dL_law_12 : decode cL_law 12 = .ok (.invokespecial 22, 3) := dk_183 0 22 (dk_at dksL_law_0 12 rfl rfl)
theorem dL_law_15 : decode cL_law 15 = .ok (.astore_n 2, 1) := dk_77 (dk_at dksL_law_0 15 rfl rfl)
theorem dL_law_16 : decode cL_law 16 = .ok (.iconst 1, 1) := dk_4 (dk_at dksL_law_0 16 rfl rfl)
theorem dL_law_17 : decode cL_law 17 = .ok (.newarray .long, 2) := dk_188_11 (dk_at dksL_law_0 17 rfl rfl)
theorem dL_law_19 : decode cL_law 19 = .ok (.astore_n 3, 1) := dk_78 (dk_at dksL_law_0 19 rfl rfl)
theorem dL_law_20 : decode cL_law 20 = .ok (.iconst 0, 1) := dk_3 (dk_at dksL_law_0 20 rfl rfl)
theorem dL_law_21 : decode cL_law 21 = .ok (.istore 4, 2) := dk_54 4 (dk_at dksL_law_0 21 rfl rfl)
theorem dL_law_23 : decode cL_law 23 = .ok (.iload 4, 2) := dk_21 4 (dk_at dksL_law_1 0 rfl rfl)
theorem dL_law_25 : decode cL_law 25 = .ok (.aload_n 0, 1) := dk_42 (dk_at dksL_law_1 2 rfl rfl)
theorem dL_law_26 : decode cL_law 26 = .ok (.arraylength, 1) := dk_190 (dk_at dksL_law_1 3 rfl rfl)
theorem dL_law_27 : decode cL_law 27 = .ok (.iconst 4, 1) := dk_7 (dk_at dksL_law_1 4 rfl rfl)
theorem dL_law_28 : decode cL_law 28 = .ok (.isub, 1) := dk_100 (dk_at dksL_law_1 5 rfl rfl)
theorem dL_law_29 : decode cL_law 29 = .ok (.if_icmp .gt 1446, 3) := dk_163 5 166 (dk_at dksL_law_1 6 rfl rfl)
theorem dL_law_32 : decode cL_law 32 = .ok (.aload_n 0, 1) := dk_42 (dk_at dksL_law_1 9 rfl rfl)
theorem dL_law_33 : decode cL_law 33 = .ok (.iload 4, 2) := dk_21 4 (dk_at dksL_law_1 10 rfl rfl)
theorem dL_law_35 : decode cL_law 35 = .ok (.iaload, 1) := dk_46 (dk_at dksL_law_1 12 rfl rfl)
theorem dL_law_36 : decode cL_law 36 = .ok (.bipush 63, 2) := dk_16 63 (dk_at dksL_law_1 13 rfl rfl)
theorem dL_law_38 : decode cL_law 38 = .ok (.iand, 1) := dk_126 (dk_at dksL_law_1 15 rfl rfl)
theorem dL_law_39 : decode cL_law 39 = .ok (.tableswitch 1430 0 35 #[157, 182, 195, 232, 269, 294, 319, 368, 405, 442, 479, 528, 553, 602, 651, 688, 737, 762, 787, 812, 837, 862, 930, 979, 1016, 1053, 1090, 1127, 1176, 1201, 1226, 1263, 1276, 1313, 1350, 1375], 157) := by decide +kernel
theorem dL_law_196 : decode cL_law 196 = .ok (.aload_n 1, 1) := dk_43 (dk_at dksL_law_3 0 rfl rfl)
theorem dL_law_197 : decode cL_law 197 = .ok (.aload_n 0, 1) := dk_42 (dk_at dksL_law_3 1 rfl rfl)
theorem dL_law_198 : decode cL_law 198 = .ok (.iload 4, 2) := dk_21 4 (dk_at dksL_law_3 2 rfl rfl)
theorem dL_law_200 : decode cL_law 200 = .ok (.iconst 1, 1) := dk_4 (dk_at dksL_law_3 4 rfl rfl)
theorem dL_law_201 : decode cL_law 201 = .ok (.iadd, 1) := dk_96 (dk_at dksL_law_3 5 rfl rfl)
theorem dL_law_202 : decode cL_law 202 = .ok (.iaload, 1) := dk_46 (dk_at dksL_law_3 6 rfl rfl)
theorem dL_law_203 : decode cL_law 203 = .ok (.invokevirtual 23, 3) := dk_182 0 23 (dk_at dksL_law_3 7 rfl rfl)
theorem dL_law_206 : decode cL_law 206 = .ok (.aload_n 2, 1) := dk_44 (dk_at dksL_law_3 10 rfl rfl)
theorem dL_law_207 : decode cL_law 207 = .ok (.aload_n 0, 1) := dk_42 (dk_at dksL_law_3 11 rfl rfl)
theorem dL_law_208 : decode cL_law 208 = .ok (.iload 4, 2) := dk_21 4 (dk_at dksL_law_3 12 rfl rfl)
theorem dL_law_210 : decode cL_law 210 = .ok (.iconst 1, 1) := dk_4 (dk_at dksL_law_3 14 rfl rfl)
theorem dL_law_211 : decode cL_law 211 = .ok (.iadd, 1) := dk_96 (dk_at dksL_law_3 15 rfl rfl)
theorem dL_law_212 : decode cL_law 212 = .ok (.iaload, 1) := dk_46 (dk_at dksL_law_3 16 rfl rfl)
theorem dL_law_213 : decode cL_law 213 = .ok (.invokevirtual 27, 3) := dk_182 0 27 (dk_at dksL_law_3 17 rfl rfl)
theorem dL_law_216 : decode cL_law 216 = .ok (.if_icmp .eq 1253, 3) := dk_159 4 229 (dk_at dksL_law_3 20 rfl rfl)
theorem dL_law_219 : decode cL_law 219 = .ok (.iconst 0, 1) := dk_3 (dk_at dksL_law_3 23 rfl rfl)
theorem dL_law_220 : decode cL_law 220 = .ok (.ireturn, 1) := dk_172 (dk_at dksL_law_4 0 rfl rfl)
theorem dL_law_221 : decode cL_law 221 = .ok (.aload_n 1, 1) := dk_43 (dk_at dksL_law_4 1 rfl rfl)
theorem dL_law_222 : decode cL_law 222 = .ok (.invokevirtual 28, 3) := dk_182 0 28 (dk_at dksL_law_4 2 rfl rfl)
theorem dL_law_225 : decode cL_law 225 = .ok (.aload_n 2, 1) := dk_44 (dk_at dksL_law_4 5 rfl rfl)
theorem dL_law_226 : decode cL_law 226 = .ok (.invokevirtual 32, 3) := dk_182 0 32 (dk_at dksL_law_4 6 rfl rfl)
theorem dL_law_229 : decode cL_law 229 = .ok (.if_icmp .eq 1240, 3) := dk_159 4 216 (dk_at dksL_law_4 9 rfl rfl)
theorem dL_law_232 : decode cL_law 232 = .ok (.iconst 0, 1) := dk_3 (dk_at dksL_law_4 12 rfl rfl)
theorem dL_law_233 : decode cL_law 233 = .ok (.ireturn, 1) := dk_172 (dk_at dksL_law_4 13 rfl rfl)
theorem dL_law_234 : decode cL_law 234 = .ok (.aload_n 1, 1) := dk_43 (dk_at dksL_law_4 14 rfl rfl)
theorem dL_law_235 : decode cL_law 235 = .ok (.aload_n 0, 1) := dk_42 (dk_at dksL_law_4 15 rfl rfl)
theorem dL_law_236 : decode cL_law 236 = .ok (.iload 4, 2) := dk_21 4 (dk_at dksL_law_4 16 rfl rfl)
theorem dL_law_238 : decode cL_law 238 = .ok (.iconst 1, 1) := dk_4 (dk_at dksL_law_4 18 rfl rfl)
theorem dL_law_239 : decode cL_law 239 = .ok (.iadd, 1) := dk_96 (dk_at dksL_law_4 19 rfl rfl)
theorem dL_law_240 : decode cL_law 240 = .ok (.iaload, 1) := dk_46 (dk_at dksL_law_4 20 rfl rfl)
theorem dL_law_241 : decode cL_law 241 = .ok (.aload_n 0, 1) := dk_42 (dk_at dksL_law_4 21 rfl rfl)
theorem dL_law_242 : decode cL_law 242 = .ok (.iload 4, 2) := dk_21 4 (dk_at dksL_law_4 22 rfl rfl)
theorem dL_law_244 : decode cL_law 244 = .ok (.iconst 2, 1) := dk_5 (dk_at dksL_law_5 0 rfl rfl)
theorem dL_law_245 : decode cL_law 245 = .ok (.iadd, 1) := dk_96 (dk_at dksL_law_5 1 rfl rfl)
theorem dL_law_246 : decode cL_law 246 = .ok (.iaload, 1) := dk_46 (dk_at dksL_law_5 2 rfl rfl)
theorem dL_law_247 : decode cL_law 247 = .ok (.invokevirtual 33, 3) := dk_182 0 33 (dk_at dksL_law_5 3 rfl rfl)
theorem dL_law_250 : decode cL_law 250 = .ok (.aload_n 2, 1) := dk_44 (dk_at dksL_law_5 6 rfl rfl)
theorem dL_law_251 : decode cL_law 251 = .ok (.aload_n 0, 1) := dk_42 (dk_at dksL_law_5 7 rfl rfl)
theorem dL_law_252 : decode cL_law 252 = .ok (.iload 4, 2) := dk_21 4 (dk_at dksL_law_5 8 rfl rfl)
theorem dL_law_254 : decode cL_law 254 = .ok (.iconst 1, 1) := dk_4 (dk_at dksL_law_5 10 rfl rfl)
theorem dL_law_255 : decode cL_law 255 = .ok (.iadd, 1) := dk_96 (dk_at dksL_law_5 11 rfl rfl)
theorem dL_law_256 : decode cL_law 256 = .ok (.iaload, 1) := dk_46 (dk_at dksL_law_5 12 rfl rfl)
theorem dL_law_257 : decode cL_law 257 = .ok (.aload_n 0, 1) := dk_42 (dk_at dksL_law_5 13 rfl rfl)
theorem dL_law_258 : decode cL_law 258 = .ok (.iload 4, 2) := dk_21 4 (dk_at dksL_law_5 14 rfl rfl)
theorem dL_law_260 : decode cL_law 260 = .ok (.iconst 2, 1) := dk_5 (dk_at dksL_law_5 16 rfl rfl)
theorem dL_law_261 : decode cL_law 261 = .ok (.iadd, 1) := dk_96 (dk_at dksL_law_5 17 rfl rfl)
theorem dL_law_262 : decode cL_law 262 = .ok (.iaload, 1) := dk_46 (dk_at dksL_law_5 18 rfl rfl)
theorem dL_law_263 : decode cL_law 263 = .ok (.invokevirtual 36, 3) := dk_182 0 36 (dk_at dksL_law_5 19 rfl rfl)
theorem dL_law_266 : decode cL_law 266 = .ok (.if_icmp .eq 1203, 3) := dk_159 4 179 (dk_at dksL_law_6 0 rfl rfl)
theorem dL_law_269 : decode cL_law 269 = .ok (.iconst 0, 1) := dk_3 (dk_at dksL_law_6 3 rfl rfl)
theorem dL_law_270 : decode cL_law 270 = .ok (.ireturn, 1) := dk_172 (dk_at dksL_law_6 4 rfl rfl)
theorem dL_law_271 : decode cL_law 271 = .ok (.aload_n 1, 1) := dk_43 (dk_at dksL_law_6 5 rfl rfl)
theorem dL_law_272 : decode cL_law 272 = .ok (.aload_n 0, 1) := dk_42 (dk_at dksL_law_6 6 rfl rfl)
theorem dL_law_273 : decode cL_law 273 = .ok (.iload 4, 2) := dk_21 4 (dk_at dksL_law_6 7 rfl rfl)
theorem dL_law_275 : decode cL_law 275 = .ok (.iconst 1, 1) := dk_4 (dk_at dksL_law_6 9 rfl rfl)
theorem dL_law_276 : decode cL_law 276 = .ok (.iadd, 1) := dk_96 (dk_at dksL_law_6 10 rfl rfl)
theorem dL_law_277 : decode cL_law 277 = .ok (.iaload, 1) := dk_46 (dk_at dksL_law_6 11 rfl rfl)
theorem dL_law_278 : decode cL_law 278 = .ok (.aload_n 0, 1) := dk_42 (dk_at dksL_law_6 12 rfl rfl)
theorem dL_law_279 : decode cL_law 279 = .ok (.iload 4, 2) := dk_21 4 (dk_at dksL_law_6 13 rfl rfl)
theorem dL_law_281 : decode cL_law 281 = .ok (.iconst 2, 1) := dk_5 (dk_at dksL_law_6 15 rfl rfl)
theorem dL_law_282 : decode cL_law 282 = .ok (.iadd, 1) := dk_96 (dk_at dksL_law_6 16 rfl rfl)
theorem dL_law_283 : decode cL_law 283 = .ok (.iaload, 1) := dk_46 (dk_at dksL_law_6 17 rfl rfl)
theorem dL_law_284 : decode cL_law 284 = .ok (.invokevirtual 37, 3) := dk_182 0 37 (dk_at dksL_law_6 18 rfl rfl)
theorem dL_law_287 : decode cL_law 287 = .ok (.aload_n 2, 1) := dk_44 (dk_at dksL_law_6 21 rfl rfl)
theorem dL_law_288 : decode cL_law 288 = .ok (.aload_n 0, 1) := dk_42 (dk_at dksL_law_6 22 rfl rfl)
theorem dL_law_289 : decode cL_law 289 = .ok (.iload 4, 2) := dk_21 4 (dk_at dksL_law_7 0 rfl rfl)
theorem dL_law_291 : decode cL_law 291 = .ok (.iconst 1, 1) := dk_4 (dk_at dksL_law_7 2 rfl rfl)
theorem dL_law_292 : decode cL_law 292 = .ok (.iadd, 1) := dk_96 (dk_at dksL_law_7 3 rfl rfl)
theorem dL_law_293 : decode cL_law 293 = .ok (.iaload, 1) := dk_46 (dk_at dksL_law_7 4 rfl rfl)
theorem dL_law_294 : decode cL_law 294 = .ok (.aload_n 0, 1) := dk_42 (dk_at dksL_law_7 5 rfl rfl)
theorem dL_law_295 : decode cL_law 295 = .ok (.iload 4, 2) := dk_21 4 (dk_at dksL_law_7 6 rfl rfl)
theorem dL_law_297 : decode cL_law 297 = .ok (.iconst 2, 1) := dk_5 (dk_at dksL_law_7 8 rfl rfl)
theorem dL_law_298 : decode cL_law 298 = .ok (.iadd, 1) := dk_96 (dk_at dksL_law_7 9 rfl rfl)
theorem dL_law_299 : decode cL_law 299 = .ok (.iaload, 1) := dk_46 (dk_at dksL_law_7 10 rfl rfl)
theorem dL_law_300 : decode cL_law 300 = .ok (.invokevirtual 40, 3) := dk_182 0 40 (dk_at dksL_law_7 11 rfl rfl)
theorem dL_law_303 : decode cL_law 303 = .ok (.if_icmp .eq 1166, 3) := dk_159 4 142 (dk_at dksL_law_7 14 rfl rfl)
theorem dL_law_306 : decode cL_law 306 = .ok (.iconst 0, 1) := dk_3 (dk_at dksL_law_7 17 rfl rfl)
theorem dL_law_307 : decode cL_law 307 = .ok (.ireturn, 1) := dk_172 (dk_at dksL_law_7 18 rfl rfl)
theorem dL_law_308 : decode cL_law 308 = .ok (.aload_n 1, 1) := dk_43 (dk_at dksL_law_7 19 rfl rfl)
theorem dL_law_309 : decode cL_law 309 = .ok (.aload_n 0, 1) := dk_42 (dk_at dksL_law_7 20 rfl rfl)
theorem dL_law_310 : decode cL_law 310 = .ok (.iload 4, 2) := dk_21 4 (dk_at dksL_law_7 21 rfl rfl)
theorem dL_law_312 : decode cL_law 312 = .ok (.iconst 1, 1) := dk_4 (dk_at dksL_law_7 23 rfl rfl)
theorem dL_law_313 : decode cL_law 313 = .ok (.iadd, 1) := dk_96 (dk_at dksL_law_8 0 rfl rfl)
theorem dL_law_314 : decode cL_law 314 = .ok (.iaload, 1) := dk_46 (dk_at dksL_law_8 1 rfl rfl)
theorem dL_law_315 : decode cL_law 315 = .ok (.invokevirtual 41, 3) := dk_182 0 41 (dk_at dksL_law_8 2 rfl rfl)
theorem dL_law_318 : decode cL_law 318 = .ok (.aload_n 2, 1) := dk_44 (dk_at dksL_law_8 5 rfl rfl)
theorem dL_law_319 : decode cL_law 319 = .ok (.aload_n 0, 1) := dk_42 (dk_at dksL_law_8 6 rfl rfl)
theorem dL_law_320 : decode cL_law 320 = .ok (.iload 4, 2) := dk_21 4 (dk_at dksL_law_8 7 rfl rfl)
theorem dL_law_322 : decode cL_law 322 = .ok (.iconst 1, 1) := dk_4 (dk_at dksL_law_8 9 rfl rfl)
theorem dL_law_323 : decode cL_law 323 = .ok (.iadd, 1) := dk_96 (dk_at dksL_law_8 10 rfl rfl)
theorem dL_law_324 : decode cL_law 324 = .ok (.iaload, 1) := dk_46 (dk_at dksL_law_8 11 rfl rfl)
theorem dL_law_325 : decode cL_law 325 = .ok (.invokevirtual 44, 3) := dk_182 0 44 (dk_at dksL_law_8 12 rfl rfl)
theorem dL_law_328 : decode cL_law 328 = .ok (.if_icmp .eq 1141, 3) := dk_159 4 117 (dk_at dksL_law_8 15 rfl rfl)
theorem dL_law_331 : decode cL_law 331 = .ok (.iconst 0, 1) := dk_3 (dk_at dksL_law_8 18 rfl rfl)
theorem dL_law_332 : decode cL_law 332 = .ok (.ireturn, 1) := dk_172 (dk_at dksL_law_8 19 rfl rfl)
theorem dL_law_333 : decode cL_law 333 = .ok (.aload_n 1, 1) := dk_43 (dk_at dksL_law_8 20 rfl rfl)
theorem dL_law_334 : decode cL_law 334 = .ok (.aload_n 0, 1) := dk_42 (dk_at dksL_law_8 21 rfl rfl)
theorem dL_law_335 : decode cL_law 335 = .ok (.iload 4, 2) := dk_21 4 (dk_at dksL_law_8 22 rfl rfl)
theorem dL_law_337 : decode cL_law 337 = .ok (.iconst 1, 1) := dk_4 (dk_at dksL_law_9 0 rfl rfl)
theorem dL_law_338 : decode cL_law 338 = .ok (.iadd, 1) := dk_96 (dk_at dksL_law_9 1 rfl rfl)
theorem dL_law_339 : decode cL_law 339 = .ok (.iaload, 1) := dk_46 (dk_at dksL_law_9 2 rfl rfl)
theorem dL_law_340 : decode cL_law 340 = .ok (.invokevirtual 45, 3) := dk_182 0 45 (dk_at dksL_law_9 3 rfl rfl)
theorem dL_law_343 : decode cL_law 343 = .ok (.aload_n 2, 1) := dk_44 (dk_at dksL_law_9 6 rfl rfl)
theorem dL_law_344 : decode cL_law 344 = .ok (.aload_n 0, 1) := dk_42 (dk_at dksL_law_9 7 rfl rfl)
theorem dL_law_345 : decode cL_law 345 = .ok (.iload 4, 2) := dk_21 4 (dk_at dksL_law_9 8 rfl rfl)
theorem dL_law_347 : decode cL_law 347 = .ok (.iconst 1, 1) := dk_4 (dk_at dksL_law_9 10 rfl rfl)
theorem dL_law_348 : decode cL_law 348 = .ok (.iadd, 1) := dk_96 (dk_at dksL_law_9 11 rfl rfl)
theorem dL_law_349 : decode cL_law 349 = .ok (.iaload, 1) := dk_46 (dk_at dksL_law_9 12 rfl rfl)
theorem dL_law_350 : decode cL_law 350 = .ok (.invokevirtual 48, 3) := dk_182 0 48 (dk_at dksL_law_9 13 rfl rfl)
theorem dL_law_353 : decode cL_law 353 = .ok (.if_icmp .eq 1116, 3) := dk_159 4 92 (dk_at dksL_law_9 16 rfl rfl)
theorem dL_law_356 : decode cL_law 356 = .ok (.iconst 0, 1) := dk_3 (dk_at dksL_law_9 19 rfl rfl)
theorem dL_law_357 : decode cL_law 357 = .ok (.ireturn, 1) := dk_172 (dk_at dksL_law_9 20 rfl rfl)
theorem dL_law_358 : decode cL_law 358 = .ok (.aload_n 1, 1) := dk_43 (dk_at dksL_law_9 21 rfl rfl)
theorem dL_law_359 : decode cL_law 359 = .ok (.aload_n 0, 1) := dk_42 (dk_at dksL_law_9 22 rfl rfl)
theorem dL_law_360 : decode cL_law 360 = .ok (.iload 4, 2) := dk_21 4 (dk_at dksL_law_10 0 rfl rfl)
theorem dL_law_362 : decode cL_law 362 = .ok (.iconst 1, 1) := dk_4 (dk_at dksL_law_10 2 rfl rfl)
theorem dL_law_363 : decode cL_law 363 = .ok (.iadd, 1) := dk_96 (dk_at dksL_law_10 3 rfl rfl)
theorem dL_law_364 : decode cL_law 364 = .ok (.iaload, 1) := dk_46 (dk_at dksL_law_10 4 rfl rfl)
theorem dL_law_365 : decode cL_law 365 = .ok (.aload_n 0, 1) := dk_42 (dk_at dksL_law_10 5 rfl rfl)
theorem dL_law_366 : decode cL_law 366 = .ok (.iload 4, 2) := dk_21 4 (dk_at dksL_law_10 6 rfl rfl)
theorem dL_law_368 : decode cL_law 368 = .ok (.iconst 2, 1) := dk_5 (dk_at dksL_law_10 8 rfl rfl)
theorem dL_law_369 : decode cL_law 369 = .ok (.iadd, 1) := dk_96 (dk_at dksL_law_10 9 rfl rfl)
theorem dL_law_370 : decode cL_law 370 = .ok (.iaload, 1) := dk_46 (dk_at dksL_law_10 10 rfl rfl)
theorem dL_law_371 : decode cL_law 371 = .ok (.aload_n 0, 1) := dk_42 (dk_at dksL_law_10 11 rfl rfl)
theorem dL_law_372 : decode cL_law 372 = .ok (.iload 4, 2) := dk_21 4 (dk_at dksL_law_10 12 rfl rfl)
theorem dL_law_374 : decode cL_law 374 = .ok (.iconst 3, 1) := dk_6 (dk_at dksL_law_10 14 rfl rfl)
theorem dL_law_375 : decode cL_law 375 = .ok (.iadd, 1) := dk_96 (dk_at dksL_law_10 15 rfl rfl)
theorem dL_law_376 : decode cL_law 376 = .ok (.iaload, 1) := dk_46 (dk_at dksL_law_10 16 rfl rfl)
theorem dL_law_377 : decode cL_law 377 = .ok (.invokevirtual 49, 3) := dk_182 0 49 (dk_at dksL_law_10 17 rfl rfl)
theorem dL_law_380 : decode cL_law 380 = .ok (.aload_n 2, 1) := dk_44 (dk_at dksL_law_10 20 rfl rfl)
theorem dL_law_381 : decode cL_law 381 = .ok (.aload_n 0, 1) := dk_42 (dk_at dksL_law_10 21 rfl rfl)
theorem dL_law_382 : decode cL_law 382 = .ok (.iload 4, 2) := dk_21 4 (dk_at dksL_law_10 22 rfl rfl)
theorem dL_law_384 : decode cL_law 384 = .ok (.iconst 1, 1) := dk_4 (dk_at dksL_law_11 0 rfl rfl)
theorem dL_law_385 : decode cL_law 385 = .ok (.iadd, 1) := dk_96 (dk_at dksL_law_11 1 rfl rfl)
theorem dL_law_386 : decode cL_law 386 = .ok (.iaload, 1) := dk_46 (dk_at dksL_law_11 2 rfl rfl)
theorem dL_law_387 : decode cL_law 387 = .ok (.aload_n 0, 1) := dk_42 (dk_at dksL_law_11 3 rfl rfl)
theorem dL_law_388 : decode cL_law 388 = .ok (.iload 4, 2) := dk_21 4 (dk_at dksL_law_11 4 rfl rfl)
theorem dL_law_390 : decode cL_law 390 = .ok (.iconst 2, 1) := dk_5 (dk_at dksL_law_11 6 rfl rfl)
theorem dL_law_391 : decode cL_law 391 = .ok (.iadd, 1) := dk_96 (dk_at dksL_law_11 7 rfl rfl)
theorem dL_law_392 : decode cL_law 392 = .ok (.iaload, 1) := dk_46 (dk_at dksL_law_11 8 rfl rfl)
theorem dL_law_393 : decode cL_law 393 = .ok (.aload_n 0, 1) := dk_42 (dk_at dksL_law_11 9 rfl rfl)
theorem dL_law_394 : decode cL_law 394 = .ok (.iload 4, 2) := dk_21 4 (dk_at dksL_law_11 10 rfl rfl)
theorem dL_law_396 : decode cL_law 396 = .ok (.iconst 3, 1) := dk_6 (dk_at dksL_law_11 12 rfl rfl)
theorem dL_law_397 : decode cL_law 397 = .ok (.iadd, 1) := dk_96 (dk_at dksL_law_11 13 rfl rfl)
theorem dL_law_398 : decode cL_law 398 = .ok (.iaload, 1) := dk_46 (dk_at dksL_law_11 14 rfl rfl)
theorem dL_law_399 : decode cL_law 399 = .ok (.invokevirtual 53, 3) := dk_182 0 53 (dk_at dksL_law_11 15 rfl rfl)
theorem dL_law_402 : decode cL_law 402 = .ok (.if_icmp .eq 1067, 3) := dk_159 4 43 (dk_at dksL_law_11 18 rfl rfl)
theorem dL_law_405 : decode cL_law 405 = .ok (.iconst 0, 1) := dk_3 (dk_at dksL_law_11 21 rfl rfl)
theorem dL_law_406 : decode cL_law 406 = .ok (.ireturn, 1) := dk_172 (dk_at dksL_law_11 22 rfl rfl)
theorem dL_law_407 : decode cL_law 407 = .ok (.aload_n 1, 1) := dk_43 (dk_at dksL_law_11 23 rfl rfl)
theorem dL_law_408 : decode cL_law 408 = .ok (.aload_n 0, 1) := dk_42 (dk_at dksL_law_12 0 rfl rfl)
theorem dL_law_409 : decode cL_law 409 = .ok (.iload 4, 2) := dk_21 4 (dk_at dksL_law_12 1 rfl rfl)
theorem dL_law_411 : decode cL_law 411 = .ok (.iconst 1, 1) := dk_4 (dk_at dksL_law_12 3 rfl rfl)
theorem dL_law_412 : decode cL_law 412 = .ok (.iadd, 1) := dk_96 (dk_at dksL_law_12 4 rfl rfl)
theorem dL_law_413 : decode cL_law 413 = .ok (.iaload, 1) := dk_46 (dk_at dksL_law_12 5 rfl rfl)
theorem dL_law_414 : decode cL_law 414 = .ok (.aload_n 0, 1) := dk_42 (dk_at dksL_law_12 6 rfl rfl)
theorem dL_law_415 : decode cL_law 415 = .ok (.iload 4, 2) := dk_21 4 (dk_at dksL_law_12 7 rfl rfl)
theorem dL_law_417 : decode cL_law 417 = .ok (.iconst 2, 1) := dk_5 (dk_at dksL_law_12 9 rfl rfl)
theorem dL_law_418 : decode cL_law 418 = .ok (.iadd, 1) := dk_96 (dk_at dksL_law_12 10 rfl rfl)
theorem dL_law_419 : decode cL_law 419 = .ok (.iaload, 1) := dk_46 (dk_at dksL_law_12 11 rfl rfl)
theorem dL_law_420 : decode cL_law 420 = .ok (.invokevirtual 54, 3) := dk_182 0 54 (dk_at dksL_law_12 12 rfl rfl)
theorem dL_law_423 : decode cL_law 423 = .ok (.aload_n 2, 1) := dk_44 (dk_at dksL_law_12 15 rfl rfl)
theorem dL_law_424 : decode cL_law 424 = .ok (.aload_n 0, 1) := dk_42 (dk_at dksL_law_12 16 rfl rfl)
theorem dL_law_425 : decode cL_law 425 = .ok (.iload 4, 2) := dk_21 4 (dk_at dksL_law_12 17 rfl rfl)
theorem dL_law_427 : decode cL_law 427 = .ok (.iconst 1, 1) := dk_4 (dk_at dksL_law_12 19 rfl rfl)
theorem dL_law_428 : decode cL_law 428 = .ok (.iadd, 1) := dk_96 (dk_at dksL_law_12 20 rfl rfl)
theorem dL_law_429 : decode cL_law 429 = .ok (.iaload, 1) := dk_46 (dk_at dksL_law_12 21 rfl rfl)
theorem dL_law_430 : decode cL_law 430 = .ok (.aload_n 0, 1) := dk_42 (dk_at dksL_law_12 22 rfl rfl)
theorem dL_law_431 : decode cL_law 431 = .ok (.iload 4, 2) := dk_21 4 (dk_at dksL_law_13 0 rfl rfl)
theorem dL_law_433 : decode cL_law 433 = .ok (.iconst 2, 1) := dk_5 (dk_at dksL_law_13 2 rfl rfl)
theorem dL_law_434 : decode cL_law 434 = .ok (.iadd, 1) := dk_96 (dk_at dksL_law_13 3 rfl rfl)
theorem dL_law_435 : decode cL_law 435 = .ok (.iaload, 1) := dk_46 (dk_at dksL_law_13 4 rfl rfl)
theorem dL_law_436 : decode cL_law 436 = .ok (.invokevirtual 57, 3) := dk_182 0 57 (dk_at dksL_law_13 5 rfl rfl)
theorem dL_law_439 : decode cL_law 439 = .ok (.if_icmp .eq 1030, 3) := dk_159 4 6 (dk_at dksL_law_13 8 rfl rfl)
theorem dL_law_442 : decode cL_law 442 = .ok (.iconst 0, 1) := dk_3 (dk_at dksL_law_13 11 rfl rfl)
theorem dL_law_443 : decode cL_law 443 = .ok (.ireturn, 1) := dk_172 (dk_at dksL_law_13 12 rfl rfl)
theorem dL_law_444 : decode cL_law 444 = .ok (.aload_n 1, 1) := dk_43 (dk_at dksL_law_13 13 rfl rfl)
theorem dL_law_445 : decode cL_law 445 = .ok (.aload_n 0, 1) := dk_42 (dk_at dksL_law_13 14 rfl rfl)
theorem dL_law_446 : decode cL_law 446 = .ok (.iload 4, 2) := dk_21 4 (dk_at dksL_law_13 15 rfl rfl)
theorem dL_law_448 : decode cL_law 448 = .ok (.iconst 1, 1) := dk_4 (dk_at dksL_law_13 17 rfl rfl)
theorem dL_law_449 : decode cL_law 449 = .ok (.iadd, 1) := dk_96 (dk_at dksL_law_13 18 rfl rfl)
theorem dL_law_450 : decode cL_law 450 = .ok (.iaload, 1) := dk_46 (dk_at dksL_law_13 19 rfl rfl)
theorem dL_law_451 : decode cL_law 451 = .ok (.aload_n 0, 1) := dk_42 (dk_at dksL_law_13 20 rfl rfl)
theorem dL_law_452 : decode cL_law 452 = .ok (.iload 4, 2) := dk_21 4 (dk_at dksL_law_13 21 rfl rfl)
theorem dL_law_454 : decode cL_law 454 = .ok (.iconst 2, 1) := dk_5 (dk_at dksL_law_13 23 rfl rfl)
theorem dL_law_455 : decode cL_law 455 = .ok (.iadd, 1) := dk_96 (dk_at dksL_law_14 0 rfl rfl)
theorem dL_law_456 : decode cL_law 456 = .ok (.iaload, 1) := dk_46 (dk_at dksL_law_14 1 rfl rfl)
theorem dL_law_457 : decode cL_law 457 = .ok (.invokevirtual 58, 3) := dk_182 0 58 (dk_at dksL_law_14 2 rfl rfl)
theorem dL_law_460 : decode cL_law 460 = .ok (.aload_n 2, 1) := dk_44 (dk_at dksL_law_14 5 rfl rfl)
theorem dL_law_461 : decode cL_law 461 = .ok (.aload_n 0, 1) := dk_42 (dk_at dksL_law_14 6 rfl rfl)
theorem dL_law_462 : decode cL_law 462 = .ok (.iload 4, 2) := dk_21 4 (dk_at dksL_law_14 7 rfl rfl)
theorem dL_law_464 : decode cL_law 464 = .ok (.iconst 1, 1) := dk_4 (dk_at dksL_law_14 9 rfl rfl)
theorem dL_law_465 : decode cL_law 465 = .ok (.iadd, 1) := dk_96 (dk_at dksL_law_14 10 rfl rfl)
theorem dL_law_466 : decode cL_law 466 = .ok (.iaload, 1) := dk_46 (dk_at dksL_law_14 11 rfl rfl)
theorem dL_law_467 : decode cL_law 467 = .ok (.aload_n 0, 1) := dk_42 (dk_at dksL_law_14 12 rfl rfl)
theorem dL_law_468 : decode cL_law 468 = .ok (.iload 4, 2) := dk_21 4 (dk_at dksL_law_14 13 rfl rfl)
theorem dL_law_470 : decode cL_law 470 = .ok (.iconst 2, 1) := dk_5 (dk_at dksL_law_14 15 rfl rfl)
theorem dL_law_471 : decode cL_law 471 = .ok (.iadd, 1) := dk_96 (dk_at dksL_law_14 16 rfl rfl)
theorem dL_law_472 : decode cL_law 472 = .ok (.iaload, 1) := dk_46 (dk_at dksL_law_14 17 rfl rfl)
theorem dL_law_473 : decode cL_law 473 = .ok (.invokevirtual 61, 3) := dk_182 0 61 (dk_at dksL_law_14 18 rfl rfl)
theorem dL_law_476 : decode cL_law 476 = .ok (.if_icmp .eq 993, 3) := dk_159 3 225 (dk_at dksL_law_14 21 rfl rfl)
theorem dL_law_479 : decode cL_law 479 = .ok (.iconst 0, 1) := dk_3 (dk_at dksL_law_15 0 rfl rfl)
theorem dL_law_480 : decode cL_law 480 = .ok (.ireturn, 1) := dk_172 (dk_at dksL_law_15 1 rfl rfl)
theorem dL_law_481 : decode cL_law 481 = .ok (.aload_n 1, 1) := dk_43 (dk_at dksL_law_15 2 rfl rfl)
theorem dL_law_482 : decode cL_law 482 = .ok (.aload_n 0, 1) := dk_42 (dk_at dksL_law_15 3 rfl rfl)
theorem dL_law_483 : decode cL_law 483 = .ok (.iload 4, 2) := dk_21 4 (dk_at dksL_law_15 4 rfl rfl)
theorem dL_law_485 : decode cL_law 485 = .ok (.iconst 1, 1) := dk_4 (dk_at dksL_law_15 6 rfl rfl)
theorem dL_law_486 : decode cL_law 486 = .ok (.iadd, 1) := dk_96 (dk_at dksL_law_15 7 rfl rfl)
theorem dL_law_487 : decode cL_law 487 = .ok (.iaload, 1) := dk_46 (dk_at dksL_law_15 8 rfl rfl)
theorem dL_law_488 : decode cL_law 488 = .ok (.aload_n 0, 1) := dk_42 (dk_at dksL_law_15 9 rfl rfl)
theorem dL_law_489 : decode cL_law 489 = .ok (.iload 4, 2) := dk_21 4 (dk_at dksL_law_15 10 rfl rfl)
theorem dL_law_491 : decode cL_law 491 = .ok (.iconst 2, 1) := dk_5 (dk_at dksL_law_15 12 rfl rfl)
theorem dL_law_492 : decode cL_law 492 = .ok (.iadd, 1) := dk_96 (dk_at dksL_law_15 13 rfl rfl)
theorem dL_law_493 : decode cL_law 493 = .ok (.iaload, 1) := dk_46 (dk_at dksL_law_15 14 rfl rfl)
theorem dL_law_494 : decode cL_law 494 = .ok (.invokevirtual 62, 3) := dk_182 0 62 (dk_at dksL_law_15 15 rfl rfl)
theorem dL_law_497 : decode cL_law 497 = .ok (.aload_n 2, 1) := dk_44 (dk_at dksL_law_15 18 rfl rfl)
theorem dL_law_498 : decode cL_law 498 = .ok (.aload_n 0, 1) := dk_42 (dk_at dksL_law_15 19 rfl rfl)
theorem dL_law_499 : decode cL_law 499 = .ok (.iload 4, 2) := dk_21 4 (dk_at dksL_law_15 20 rfl rfl)
theorem dL_law_501 : decode cL_law 501 = .ok (.iconst 1, 1) := dk_4 (dk_at dksL_law_15 22 rfl rfl)
theorem dL_law_502 : decode cL_law 502 = .ok (.iadd, 1) := dk_96 (dk_at dksL_law_15 23 rfl rfl)
theorem dL_law_503 : decode cL_law 503 = .ok (.iaload, 1) := dk_46 (dk_at dksL_law_16 0 rfl rfl)
theorem dL_law_504 : decode cL_law 504 = .ok (.aload_n 0, 1) := dk_42 (dk_at dksL_law_16 1 rfl rfl)
theorem dL_law_505 : decode cL_law 505 = .ok (.iload 4, 2) := dk_21 4 (dk_at dksL_law_16 2 rfl rfl)
theorem dL_law_507 : decode cL_law 507 = .ok (.iconst 2, 1) := dk_5 (dk_at dksL_law_16 4 rfl rfl)
theorem dL_law_508 : decode cL_law 508 = .ok (.iadd, 1) := dk_96 (dk_at dksL_law_16 5 rfl rfl)
theorem dL_law_509 : decode cL_law 509 = .ok (.iaload, 1) := dk_46 (dk_at dksL_law_16 6 rfl rfl)
theorem dL_law_510 : decode cL_law 510 = .ok (.invokevirtual 65, 3) := dk_182 0 65 (dk_at dksL_law_16 7 rfl rfl)
theorem dL_law_513 : decode cL_law 513 = .ok (.if_icmp .eq 956, 3) := dk_159 3 188 (dk_at dksL_law_16 10 rfl rfl)
theorem dL_law_516 : decode cL_law 516 = .ok (.iconst 0, 1) := dk_3 (dk_at dksL_law_16 13 rfl rfl)
theorem dL_law_517 : decode cL_law 517 = .ok (.ireturn, 1) := dk_172 (dk_at dksL_law_16 14 rfl rfl)
theorem dL_law_518 : decode cL_law 518 = .ok (.aload_n 1, 1) := dk_43 (dk_at dksL_law_16 15 rfl rfl)
theorem dL_law_519 : decode cL_law 519 = .ok (.aload_n 0, 1) := dk_42 (dk_at dksL_law_16 16 rfl rfl)
theorem dL_law_520 : decode cL_law 520 = .ok (.iload 4, 2) := dk_21 4 (dk_at dksL_law_16 17 rfl rfl)
theorem dL_law_522 : decode cL_law 522 = .ok (.iconst 1, 1) := dk_4 (dk_at dksL_law_16 19 rfl rfl)
theorem dL_law_523 : decode cL_law 523 = .ok (.iadd, 1) := dk_96 (dk_at dksL_law_16 20 rfl rfl)
theorem dL_law_524 : decode cL_law 524 = .ok (.iaload, 1) := dk_46 (dk_at dksL_law_16 21 rfl rfl)
theorem dL_law_525 : decode cL_law 525 = .ok (.aload_n 0, 1) := dk_42 (dk_at dksL_law_16 22 rfl rfl)
theorem dL_law_526 : decode cL_law 526 = .ok (.iload 4, 2) := dk_21 4 (dk_at dksL_law_17 0 rfl rfl)
theorem dL_law_528 : decode cL_law 528 = .ok (.iconst 2, 1) := dk_5 (dk_at dksL_law_17 2 rfl rfl)
theorem dL_law_529 : decode cL_law 529 = .ok (.iadd, 1) := dk_96 (dk_at dksL_law_17 3 rfl rfl)
theorem dL_law_530 : decode cL_law 530 = .ok (.iaload, 1) := dk_46 (dk_at dksL_law_17 4 rfl rfl)
theorem dL_law_531 : decode cL_law 531 = .ok (.aload_n 0, 1) := dk_42 (dk_at dksL_law_17 5 rfl rfl)
theorem dL_law_532 : decode cL_law 532 = .ok (.iload 4, 2) := dk_21 4 (dk_at dksL_law_17 6 rfl rfl)
theorem dL_law_534 : decode cL_law 534 = .ok (.iconst 3, 1) := dk_6 (dk_at dksL_law_17 8 rfl rfl)
theorem dL_law_535 : decode cL_law 535 = .ok (.iadd, 1) := dk_96 (dk_at dksL_law_17 9 rfl rfl)
theorem dL_law_536 : decode cL_law 536 = .ok (.iaload, 1) := dk_46 (dk_at dksL_law_17 10 rfl rfl)
theorem dL_law_537 : decode cL_law 537 = .ok (.invokevirtual 66, 3) := dk_182 0 66 (dk_at dksL_law_17 11 rfl rfl)
theorem dL_law_540 : decode cL_law 540 = .ok (.aload_n 2, 1) := dk_44 (dk_at dksL_law_17 14 rfl rfl)
theorem dL_law_541 : decode cL_law 541 = .ok (.aload_n 0, 1) := dk_42 (dk_at dksL_law_17 15 rfl rfl)
theorem dL_law_542 : decode cL_law 542 = .ok (.iload 4, 2) := dk_21 4 (dk_at dksL_law_17 16 rfl rfl)
theorem dL_law_544 : decode cL_law 544 = .ok (.iconst 1, 1) := dk_4 (dk_at dksL_law_17 18 rfl rfl)
theorem dL_law_545 : decode cL_law 545 = .ok (.iadd, 1) := dk_96 (dk_at dksL_law_17 19 rfl rfl)
theorem dL_law_546 : decode cL_law 546 = .ok (.iaload, 1) := dk_46 (dk_at dksL_law_17 20 rfl rfl)
theorem dL_law_547 : decode cL_law 547 = .ok (.aload_n 0, 1) := dk_42 (dk_at dksL_law_17 21 rfl rfl)
theorem dL_law_548 : decode cL_law 548 = .ok (.iload 4, 2) := dk_21 4 (dk_at dksL_law_17 22 rfl rfl)
theorem dL_law_550 : decode cL_law 550 = .ok (.iconst 2, 1) := dk_5 (dk_at dksL_law_18 0 rfl rfl)
theorem dL_law_551 : decode cL_law 551 = .ok (.iadd, 1) := dk_96 (dk_at dksL_law_18 1 rfl rfl)
theorem dL_law_552 : decode cL_law 552 = .ok (.iaload, 1) := dk_46 (dk_at dksL_law_18 2 rfl rfl)
theorem dL_law_553 : decode cL_law 553 = .ok (.aload_n 0, 1) := dk_42 (dk_at dksL_law_18 3 rfl rfl)
theorem dL_law_554 : decode cL_law 554 = .ok (.iload 4, 2) := dk_21 4 (dk_at dksL_law_18 4 rfl rfl)
theorem dL_law_556 : decode cL_law 556 = .ok (.iconst 3, 1) := dk_6 (dk_at dksL_law_18 6 rfl rfl)
theorem dL_law_557 : decode cL_law 557 = .ok (.iadd, 1) := dk_96 (dk_at dksL_law_18 7 rfl rfl)
theorem dL_law_558 : decode cL_law 558 = .ok (.iaload, 1) := dk_46 (dk_at dksL_law_18 8 rfl rfl)
theorem dL_law_559 : decode cL_law 559 = .ok (.invokevirtual 69, 3) := dk_182 0 69 (dk_at dksL_law_18 9 rfl rfl)
theorem dL_law_562 : decode cL_law 562 = .ok (.if_icmp .eq 907, 3) := dk_159 3 139 (dk_at dksL_law_18 12 rfl rfl)
theorem dL_law_565 : decode cL_law 565 = .ok (.iconst 0, 1) := dk_3 (dk_at dksL_law_18 15 rfl rfl)
theorem dL_law_566 : decode cL_law 566 = .ok (.ireturn, 1) := dk_172 (dk_at dksL_law_18 16 rfl rfl)
theorem dL_law_567 : decode cL_law 567 = .ok (.aload_n 1, 1) := dk_43 (dk_at dksL_law_18 17 rfl rfl)
theorem dL_law_568 : decode cL_law 568 = .ok (.aload_n 0, 1) := dk_42 (dk_at dksL_law_18 18 rfl rfl)
theorem dL_law_569 : decode cL_law 569 = .ok (.iload 4, 2) := dk_21 4 (dk_at dksL_law_18 19 rfl rfl)
theorem dL_law_571 : decode cL_law 571 = .ok (.iconst 1, 1) := dk_4 (dk_at dksL_law_18 21 rfl rfl)
theorem dL_law_572 : decode cL_law 572 = .ok (.iadd, 1) := dk_96 (dk_at dksL_law_18 22 rfl rfl)
theorem dL_law_573 : decode cL_law 573 = .ok (.iaload, 1) := dk_46 (dk_at dksL_law_18 23 rfl rfl)
theorem dL_law_574 : decode cL_law 574 = .ok (.invokevirtual 70, 3) := dk_182 0 70 (dk_at dksL_law_19 0 rfl rfl)
theorem dL_law_577 : decode cL_law 577 = .ok (.aload_n 2, 1) := dk_44 (dk_at dksL_law_19 3 rfl rfl)
theorem dL_law_578 : decode cL_law 578 = .ok (.aload_n 0, 1) := dk_42 (dk_at dksL_law_19 4 rfl rfl)
theorem dL_law_579 : decode cL_law 579 = .ok (.iload 4, 2) := dk_21 4 (dk_at dksL_law_19 5 rfl rfl)
theorem dL_law_581 : decode cL_law 581 = .ok (.iconst 1, 1) := dk_4 (dk_at dksL_law_19 7 rfl rfl)
theorem dL_law_582 : decode cL_law 582 = .ok (.iadd, 1) := dk_96 (dk_at dksL_law_19 8 rfl rfl)
theorem dL_law_583 : decode cL_law 583 = .ok (.iaload, 1) := dk_46 (dk_at dksL_law_19 9 rfl rfl)
theorem dL_law_584 : decode cL_law 584 = .ok (.invokevirtual 73, 3) := dk_182 0 73 (dk_at dksL_law_19 10 rfl rfl)
theorem dL_law_587 : decode cL_law 587 = .ok (.if_icmp .eq 882, 3) := dk_159 3 114 (dk_at dksL_law_19 13 rfl rfl)
theorem dL_law_590 : decode cL_law 590 = .ok (.iconst 0, 1) := dk_3 (dk_at dksL_law_19 16 rfl rfl)
theorem dL_law_591 : decode cL_law 591 = .ok (.ireturn, 1) := dk_172 (dk_at dksL_law_19 17 rfl rfl)
theorem dL_law_592 : decode cL_law 592 = .ok (.aload_n 1, 1) := dk_43 (dk_at dksL_law_19 18 rfl rfl)
theorem dL_law_593 : decode cL_law 593 = .ok (.aload_n 0, 1) := dk_42 (dk_at dksL_law_19 19 rfl rfl)
theorem dL_law_594 : decode cL_law 594 = .ok (.iload 4, 2) := dk_21 4 (dk_at dksL_law_19 20 rfl rfl)
theorem dL_law_596 : decode cL_law 596 = .ok (.iconst 1, 1) := dk_4 (dk_at dksL_law_19 22 rfl rfl)
theorem dL_law_597 : decode cL_law 597 = .ok (.iadd, 1) := dk_96 (dk_at dksL_law_19 23 rfl rfl)
theorem dL_law_598 : decode cL_law 598 = .ok (.iaload, 1) := dk_46 (dk_at dksL_law_20 0 rfl rfl)
theorem dL_law_599 : decode cL_law 599 = .ok (.aload_n 0, 1) := dk_42 (dk_at dksL_law_20 1 rfl rfl)
theorem dL_law_600 : decode cL_law 600 = .ok (.iload 4, 2) := dk_21 4 (dk_at dksL_law_20 2 rfl rfl)
theorem dL_law_602 : decode cL_law 602 = .ok (.iconst 2, 1) := dk_5 (dk_at dksL_law_20 4 rfl rfl)
theorem dL_law_603 : decode cL_law 603 = .ok (.iadd, 1) := dk_96 (dk_at dksL_law_20 5 rfl rfl)
theorem dL_law_604 : decode cL_law 604 = .ok (.iaload, 1) := dk_46 (dk_at dksL_law_20 6 rfl rfl)
theorem dL_law_605 : decode cL_law 605 = .ok (.aload_n 0, 1) := dk_42 (dk_at dksL_law_20 7 rfl rfl)
theorem dL_law_606 : decode cL_law 606 = .ok (.iload 4, 2) := dk_21 4 (dk_at dksL_law_20 8 rfl rfl)
theorem dL_law_608 : decode cL_law 608 = .ok (.iconst 3, 1) := dk_6 (dk_at dksL_law_20 10 rfl rfl)
theorem dL_law_609 : decode cL_law 609 = .ok (.iadd, 1) := dk_96 (dk_at dksL_law_20 11 rfl rfl)
theorem dL_law_610 : decode cL_law 610 = .ok (.iaload, 1) := dk_46 (dk_at dksL_law_20 12 rfl rfl)
theorem dL_law_611 : decode cL_law 611 = .ok (.invokevirtual 74, 3) := dk_182 0 74 (dk_at dksL_law_20 13 rfl rfl)
theorem dL_law_614 : decode cL_law 614 = .ok (.aload_n 2, 1) := dk_44 (dk_at dksL_law_20 16 rfl rfl)
theorem dL_law_615 : decode cL_law 615 = .ok (.aload_n 0, 1) := dk_42 (dk_at dksL_law_20 17 rfl rfl)
theorem dL_law_616 : decode cL_law 616 = .ok (.iload 4, 2) := dk_21 4 (dk_at dksL_law_20 18 rfl rfl)
theorem dL_law_618 : decode cL_law 618 = .ok (.iconst 1, 1) := dk_4 (dk_at dksL_law_20 20 rfl rfl)
theorem dL_law_619 : decode cL_law 619 = .ok (.iadd, 1) := dk_96 (dk_at dksL_law_20 21 rfl rfl)
theorem dL_law_620 : decode cL_law 620 = .ok (.iaload, 1) := dk_46 (dk_at dksL_law_20 22 rfl rfl)
theorem dL_law_621 : decode cL_law 621 = .ok (.aload_n 0, 1) := dk_42 (dk_at dksL_law_20 23 rfl rfl)
theorem dL_law_622 : decode cL_law 622 = .ok (.iload 4, 2) := dk_21 4 (dk_at dksL_law_21 0 rfl rfl)
theorem dL_law_624 : decode cL_law 624 = .ok (.iconst 2, 1) := dk_5 (dk_at dksL_law_21 2 rfl rfl)
theorem dL_law_625 : decode cL_law 625 = .ok (.iadd, 1) := dk_96 (dk_at dksL_law_21 3 rfl rfl)
theorem dL_law_626 : decode cL_law 626 = .ok (.iaload, 1) := dk_46 (dk_at dksL_law_21 4 rfl rfl)
theorem dL_law_627 : decode cL_law 627 = .ok (.aload_n 0, 1) := dk_42 (dk_at dksL_law_21 5 rfl rfl)
theorem dL_law_628 : decode cL_law 628 = .ok (.iload 4, 2) := dk_21 4 (dk_at dksL_law_21 6 rfl rfl)
theorem dL_law_630 : decode cL_law 630 = .ok (.iconst 3, 1) := dk_6 (dk_at dksL_law_21 8 rfl rfl)
theorem dL_law_631 : decode cL_law 631 = .ok (.iadd, 1) := dk_96 (dk_at dksL_law_21 9 rfl rfl)
theorem dL_law_632 : decode cL_law 632 = .ok (.iaload, 1) := dk_46 (dk_at dksL_law_21 10 rfl rfl)
theorem dL_law_633 : decode cL_law 633 = .ok (.invokevirtual 77, 3) := dk_182 0 77 (dk_at dksL_law_21 11 rfl rfl)
theorem dL_law_636 : decode cL_law 636 = .ok (.if_icmp .eq 833, 3) := dk_159 3 65 (dk_at dksL_law_21 14 rfl rfl)
theorem dL_law_639 : decode cL_law 639 = .ok (.iconst 0, 1) := dk_3 (dk_at dksL_law_21 17 rfl rfl)
theorem dL_law_640 : decode cL_law 640 = .ok (.ireturn, 1) := dk_172 (dk_at dksL_law_21 18 rfl rfl)
theorem dL_law_641 : decode cL_law 641 = .ok (.aload_n 1, 1) := dk_43 (dk_at dksL_law_21 19 rfl rfl)
theorem dL_law_642 : decode cL_law 642 = .ok (.aload_n 0, 1) := dk_42 (dk_at dksL_law_21 20 rfl rfl)
theorem dL_law_643 : decode cL_law 643 = .ok (.iload 4, 2) := dk_21 4 (dk_at dksL_law_21 21 rfl rfl)
theorem dL_law_645 : decode cL_law 645 = .ok (.iconst 1, 1) := dk_4 (dk_at dksL_law_21 23 rfl rfl)
theorem dL_law_646 : decode cL_law 646 = .ok (.iadd, 1) := dk_96 (dk_at dksL_law_22 0 rfl rfl)
theorem dL_law_647 : decode cL_law 647 = .ok (.iaload, 1) := dk_46 (dk_at dksL_law_22 1 rfl rfl)
theorem dL_law_648 : decode cL_law 648 = .ok (.aload_n 0, 1) := dk_42 (dk_at dksL_law_22 2 rfl rfl)
theorem dL_law_649 : decode cL_law 649 = .ok (.iload 4, 2) := dk_21 4 (dk_at dksL_law_22 3 rfl rfl)
theorem dL_law_651 : decode cL_law 651 = .ok (.iconst 2, 1) := dk_5 (dk_at dksL_law_22 5 rfl rfl)
theorem dL_law_652 : decode cL_law 652 = .ok (.iadd, 1) := dk_96 (dk_at dksL_law_22 6 rfl rfl)
theorem dL_law_653 : decode cL_law 653 = .ok (.iaload, 1) := dk_46 (dk_at dksL_law_22 7 rfl rfl)
theorem dL_law_654 : decode cL_law 654 = .ok (.aload_n 0, 1) := dk_42 (dk_at dksL_law_22 8 rfl rfl)
theorem dL_law_655 : decode cL_law 655 = .ok (.iload 4, 2) := dk_21 4 (dk_at dksL_law_22 9 rfl rfl)
theorem dL_law_657 : decode cL_law 657 = .ok (.iconst 3, 1) := dk_6 (dk_at dksL_law_22 11 rfl rfl)
theorem dL_law_658 : decode cL_law 658 = .ok (.iadd, 1) := dk_96 (dk_at dksL_law_22 12 rfl rfl)
theorem dL_law_659 : decode cL_law 659 = .ok (.iaload, 1) := dk_46 (dk_at dksL_law_22 13 rfl rfl)
theorem dL_law_660 : decode cL_law 660 = .ok (.invokevirtual 78, 3) := dk_182 0 78 (dk_at dksL_law_22 14 rfl rfl)
theorem dL_law_663 : decode cL_law 663 = .ok (.aload_n 2, 1) := dk_44 (dk_at dksL_law_22 17 rfl rfl)
theorem dL_law_664 : decode cL_law 664 = .ok (.aload_n 0, 1) := dk_42 (dk_at dksL_law_22 18 rfl rfl)
theorem dL_law_665 : decode cL_law 665 = .ok (.iload 4, 2) := dk_21 4 (dk_at dksL_law_22 19 rfl rfl)
theorem dL_law_667 : decode cL_law 667 = .ok (.iconst 1, 1) := dk_4 (dk_at dksL_law_22 21 rfl rfl)
theorem dL_law_668 : decode cL_law 668 = .ok (.iadd, 1) := dk_96 (dk_at dksL_law_22 22 rfl rfl)
theorem dL_law_669 : decode cL_law 669 = .ok (.iaload, 1) := dk_46 (dk_at dksL_law_22 23 rfl rfl)
theorem dL_law_670 : decode cL_law 670 = .ok (.aload_n 0, 1) := dk_42 (dk_at dksL_law_23 0 rfl rfl)
theorem dL_law_671 : decode cL_law 671 = .ok (.iload 4, 2) := dk_21 4 (dk_at dksL_law_23 1 rfl rfl)
theorem dL_law_673 : decode cL_law 673 = .ok (.iconst 2, 1) := dk_5 (dk_at dksL_law_23 3 rfl rfl)
theorem dL_law_674 : decode cL_law 674 = .ok (.iadd, 1) := dk_96 (dk_at dksL_law_23 4 rfl rfl)
theorem dL_law_675 : decode cL_law 675 = .ok (.iaload, 1) := dk_46 (dk_at dksL_law_23 5 rfl rfl)
theorem dL_law_676 : decode cL_law 676 = .ok (.aload_n 0, 1) := dk_42 (dk_at dksL_law_23 6 rfl rfl)
theorem dL_law_677 : decode cL_law 677 = .ok (.iload 4, 2) := dk_21 4 (dk_at dksL_law_23 7 rfl rfl)
theorem dL_law_679 : decode cL_law 679 = .ok (.iconst 3, 1) := dk_6 (dk_at dksL_law_23 9 rfl rfl)
theorem dL_law_680 : decode cL_law 680 = .ok (.iadd, 1) := dk_96 (dk_at dksL_law_23 10 rfl rfl)
theorem dL_law_681 : decode cL_law 681 = .ok (.iaload, 1) := dk_46 (dk_at dksL_law_23 11 rfl rfl)
theorem dL_law_682 : decode cL_law 682 = .ok (.invokevirtual 81, 3) := dk_182 0 81 (dk_at dksL_law_23 12 rfl rfl)
theorem dL_law_685 : decode cL_law 685 = .ok (.if_icmp .eq 784, 3) := dk_159 3 16 (dk_at dksL_law_23 15 rfl rfl)
theorem dL_law_688 : decode cL_law 688 = .ok (.iconst 0, 1) := dk_3 (dk_at dksL_law_23 18 rfl rfl)
theorem dL_law_689 : decode cL_law 689 = .ok (.ireturn, 1) := dk_172 (dk_at dksL_law_23 19 rfl rfl)
theorem dL_law_690 : decode cL_law 690 = .ok (.aload_n 1, 1) := dk_43 (dk_at dksL_law_23 20 rfl rfl)
theorem dL_law_691 : decode cL_law 691 = .ok (.aload_n 0, 1) := dk_42 (dk_at dksL_law_23 21 rfl rfl)
theorem dL_law_692 : decode cL_law 692 = .ok (.iload 4, 2) := dk_21 4 (dk_at dksL_law_23 22 rfl rfl)
theorem dL_law_694 : decode cL_law 694 = .ok (.iconst 1, 1) := dk_4 (dk_at dksL_law_24 0 rfl rfl)
theorem dL_law_695 : decode cL_law 695 = .ok (.iadd, 1) := dk_96 (dk_at dksL_law_24 1 rfl rfl)
theorem dL_law_696 : decode cL_law 696 = .ok (.iaload, 1) := dk_46 (dk_at dksL_law_24 2 rfl rfl)
theorem dL_law_697 : decode cL_law 697 = .ok (.aload_n 0, 1) := dk_42 (dk_at dksL_law_24 3 rfl rfl)
theorem dL_law_698 : decode cL_law 698 = .ok (.iload 4, 2) := dk_21 4 (dk_at dksL_law_24 4 rfl rfl)
theorem dL_law_700 : decode cL_law 700 = .ok (.iconst 2, 1) := dk_5 (dk_at dksL_law_24 6 rfl rfl)
theorem dL_law_701 : decode cL_law 701 = .ok (.iadd, 1) := dk_96 (dk_at dksL_law_24 7 rfl rfl)
theorem dL_law_702 : decode cL_law 702 = .ok (.iaload, 1) := dk_46 (dk_at dksL_law_24 8 rfl rfl)
theorem dL_law_703 : decode cL_law 703 = .ok (.invokevirtual 82, 3) := dk_182 0 82 (dk_at dksL_law_24 9 rfl rfl)
theorem dL_law_706 : decode cL_law 706 = .ok (.aload_n 2, 1) := dk_44 (dk_at dksL_law_24 12 rfl rfl)
theorem dL_law_707 : decode cL_law 707 = .ok (.aload_n 0, 1) := dk_42 (dk_at dksL_law_24 13 rfl rfl)
theorem dL_law_708 : decode cL_law 708 = .ok (.iload 4, 2) := dk_21 4 (dk_at dksL_law_24 14 rfl rfl)
theorem dL_law_710 : decode cL_law 710 = .ok (.iconst 1, 1) := dk_4 (dk_at dksL_law_24 16 rfl rfl)
theorem dL_law_711 : decode cL_law 711 = .ok (.iadd, 1) := dk_96 (dk_at dksL_law_24 17 rfl rfl)
theorem dL_law_712 : decode cL_law 712 = .ok (.iaload, 1) := dk_46 (dk_at dksL_law_24 18 rfl rfl)
theorem dL_law_713 : decode cL_law 713 = .ok (.aload_n 0, 1) := dk_42 (dk_at dksL_law_24 19 rfl rfl)
theorem dL_law_714 : decode cL_law 714 = .ok (.iload 4, 2) := dk_21 4 (dk_at dksL_law_24 20 rfl rfl)
theorem dL_law_716 : decode cL_law 716 = .ok (.iconst 2, 1) := dk_5 (dk_at dksL_law_24 22 rfl rfl)
theorem dL_law_717 : decode cL_law 717 = .ok (.iadd, 1) := dk_96 (dk_at dksL_law_24 23 rfl rfl)
theorem dL_law_718 : decode cL_law 718 = .ok (.iaload, 1) := dk_46 (dk_at dksL_law_25 0 rfl rfl)
theorem dL_law_719 : decode cL_law 719 = .ok (.invokevirtual 85, 3) := dk_182 0 85 (dk_at dksL_law_25 1 rfl rfl)
theorem dL_law_722 : decode cL_law 722 = .ok (.if_icmp .eq 747, 3) := dk_159 2 235 (dk_at dksL_law_25 4 rfl rfl)
theorem dL_law_725 : decode cL_law 725 = .ok (.iconst 0, 1) := dk_3 (dk_at dksL_law_25 7 rfl rfl)
theorem dL_law_726 : decode cL_law 726 = .ok (.ireturn, 1) := dk_172 (dk_at dksL_law_25 8 rfl rfl)
theorem dL_law_727 : decode cL_law 727 = .ok (.aload_n 1, 1) := dk_43 (dk_at dksL_law_25 9 rfl rfl)
theorem dL_law_728 : decode cL_law 728 = .ok (.aload_n 0, 1) := dk_42 (dk_at dksL_law_25 10 rfl rfl)
theorem dL_law_729 : decode cL_law 729 = .ok (.iload 4, 2) := dk_21 4 (dk_at dksL_law_25 11 rfl rfl)
theorem dL_law_731 : decode cL_law 731 = .ok (.iconst 1, 1) := dk_4 (dk_at dksL_law_25 13 rfl rfl)
theorem dL_law_732 : decode cL_law 732 = .ok (.iadd, 1) := dk_96 (dk_at dksL_law_25 14 rfl rfl)
theorem dL_law_733 : decode cL_law 733 = .ok (.iaload, 1) := dk_46 (dk_at dksL_law_25 15 rfl rfl)
theorem dL_law_734 : decode cL_law 734 = .ok (.aload_n 0, 1) := dk_42 (dk_at dksL_law_25 16 rfl rfl)
theorem dL_law_735 : decode cL_law 735 = .ok (.iload 4, 2) := dk_21 4 (dk_at dksL_law_25 17 rfl rfl)
theorem dL_law_737 : decode cL_law 737 = .ok (.iconst 2, 1) := dk_5 (dk_at dksL_law_25 19 rfl rfl)
theorem dL_law_738 : decode cL_law 738 = .ok (.iadd, 1) := dk_96 (dk_at dksL_law_25 20 rfl rfl)
theorem dL_law_739 : decode cL_law 739 = .ok (.iaload, 1) := dk_46 (dk_at dksL_law_25 21 rfl rfl)
theorem dL_law_740 : decode cL_law 740 = .ok (.aload_n 0, 1) := dk_42 (dk_at dksL_law_25 22 rfl rfl)
theorem dL_law_741 : decode cL_law 741 = .ok (.iload 4, 2) := dk_21 4 (dk_at dksL_law_26 0 rfl rfl)
theorem dL_law_743 : decode cL_law 743 = .ok (.iconst 3, 1) := dk_6 (dk_at dksL_law_26 2 rfl rfl)
theorem dL_law_744 : decode cL_law 744 = .ok (.iadd, 1) := dk_96 (dk_at dksL_law_26 3 rfl rfl)
theorem dL_law_745 : decode cL_law 745 = .ok (.iaload, 1) := dk_46 (dk_at dksL_law_26 4 rfl rfl)
theorem dL_law_746 : decode cL_law 746 = .ok (.invokevirtual 86, 3) := dk_182 0 86 (dk_at dksL_law_26 5 rfl rfl)
theorem dL_law_749 : decode cL_law 749 = .ok (.aload_n 2, 1) := dk_44 (dk_at dksL_law_26 8 rfl rfl)
theorem dL_law_750 : decode cL_law 750 = .ok (.aload_n 0, 1) := dk_42 (dk_at dksL_law_26 9 rfl rfl)
theorem dL_law_751 : decode cL_law 751 = .ok (.iload 4, 2) := dk_21 4 (dk_at dksL_law_26 10 rfl rfl)
theorem dL_law_753 : decode cL_law 753 = .ok (.iconst 1, 1) := dk_4 (dk_at dksL_law_26 12 rfl rfl)
theorem dL_law_754 : decode cL_law 754 = .ok (.iadd, 1) := dk_96 (dk_at dksL_law_26 13 rfl rfl)
theorem dL_law_755 : decode cL_law 755 = .ok (.iaload, 1) := dk_46 (dk_at dksL_law_26 14 rfl rfl)
theorem dL_law_756 : decode cL_law 756 = .ok (.aload_n 0, 1) := dk_42 (dk_at dksL_law_26 15 rfl rfl)
theorem dL_law_757 : decode cL_law 757 = .ok (.iload 4, 2) := dk_21 4 (dk_at dksL_law_26 16 rfl rfl)
theorem dL_law_759 : decode cL_law 759 = .ok (.iconst 2, 1) := dk_5 (dk_at dksL_law_26 18 rfl rfl)
theorem dL_law_760 : decode cL_law 760 = .ok (.iadd, 1) := dk_96 (dk_at dksL_law_26 19 rfl rfl)
theorem dL_law_761 : decode cL_law 761 = .ok (.iaload, 1) := dk_46 (dk_at dksL_law_26 20 rfl rfl)
theorem dL_law_762 : decode cL_law 762 = .ok (.aload_n 0, 1) := dk_42 (dk_at dksL_law_26 21 rfl rfl)
theorem dL_law_763 : decode cL_law 763 = .ok (.iload 4, 2) := dk_21 4 (dk_at dksL_law_26 22 rfl rfl)
theorem dL_law_765 : decode cL_law 765 = .ok (.iconst 3, 1) := dk_6 (dk_at dksL_law_27 0 rfl rfl)
theorem dL_law_766 : decode cL_law 766 = .ok (.iadd, 1) := dk_96 (dk_at dksL_law_27 1 rfl rfl)
theorem dL_law_767 : decode cL_law 767 = .ok (.iaload, 1) := dk_46 (dk_at dksL_law_27 2 rfl rfl)
theorem dL_law_768 : decode cL_law 768 = .ok (.invokevirtual 89, 3) := dk_182 0 89 (dk_at dksL_law_27 3 rfl rfl)
theorem dL_law_771 : decode cL_law 771 = .ok (.if_icmp .eq 698, 3) := dk_159 2 186 (dk_at dksL_law_27 6 rfl rfl)
theorem dL_law_774 : decode cL_law 774 = .ok (.iconst 0, 1) := dk_3 (dk_at dksL_law_27 9 rfl rfl)
theorem dL_law_775 : decode cL_law 775 = .ok (.ireturn, 1) := dk_172 (dk_at dksL_law_27 10 rfl rfl)
theorem dL_law_776 : decode cL_law 776 = .ok (.aload_n 1, 1) := dk_43 (dk_at dksL_law_27 11 rfl rfl)
theorem dL_law_777 : decode cL_law 777 = .ok (.aload_n 0, 1) := dk_42 (dk_at dksL_law_27 12 rfl rfl)
theorem dL_law_778 : decode cL_law 778 = .ok (.iload 4, 2) := dk_21 4 (dk_at dksL_law_27 13 rfl rfl)
theorem dL_law_780 : decode cL_law 780 = .ok (.iconst 1, 1) := dk_4 (dk_at dksL_law_27 15 rfl rfl)
theorem dL_law_781 : decode cL_law 781 = .ok (.iadd, 1) := dk_96 (dk_at dksL_law_27 16 rfl rfl)
theorem dL_law_782 : decode cL_law 782 = .ok (.iaload, 1) := dk_46 (dk_at dksL_law_27 17 rfl rfl)
theorem dL_law_783 : decode cL_law 783 = .ok (.invokevirtual 90, 3) := dk_182 0 90 (dk_at dksL_law_27 18 rfl rfl)
theorem dL_law_786 : decode cL_law 786 = .ok (.aload_n 2, 1) := dk_44 (dk_at dksL_law_27 21 rfl rfl)
theorem dL_law_787 : decode cL_law 787 = .ok (.aload_n 0, 1) := dk_42 (dk_at dksL_law_27 22 rfl rfl)
theorem dL_law_788 : decode cL_law 788 = .ok (.iload 4, 2) := dk_21 4 (dk_at dksL_law_28 0 rfl rfl)
theorem dL_law_790 : decode cL_law 790 = .ok (.iconst 1, 1) := dk_4 (dk_at dksL_law_28 2 rfl rfl)
theorem dL_law_791 : decode cL_law 791 = .ok (.iadd, 1) := dk_96 (dk_at dksL_law_28 3 rfl rfl)
theorem dL_law_792 : decode cL_law 792 = .ok (.iaload, 1) := dk_46 (dk_at dksL_law_28 4 rfl rfl)
theorem dL_law_793 : decode cL_law 793 = .ok (.invokevirtual 93, 3) := dk_182 0 93 (dk_at dksL_law_28 5 rfl rfl)
theorem dL_law_796 : decode cL_law 796 = .ok (.if_icmp .eq 673, 3) := dk_159 2 161 (dk_at dksL_law_28 8 rfl rfl)
theorem dL_law_799 : decode cL_law 799 = .ok (.iconst 0, 1) := dk_3 (dk_at dksL_law_28 11 rfl rfl)
theorem dL_law_800 : decode cL_law 800 = .ok (.ireturn, 1) := dk_172 (dk_at dksL_law_28 12 rfl rfl)
theorem dL_law_801 : decode cL_law 801 = .ok (.aload_n 1, 1) := dk_43 (dk_at dksL_law_28 13 rfl rfl)
theorem dL_law_802 : decode cL_law 802 = .ok (.aload_n 0, 1) := dk_42 (dk_at dksL_law_28 14 rfl rfl)
theorem dL_law_803 : decode cL_law 803 = .ok (.iload 4, 2) := dk_21 4 (dk_at dksL_law_28 15 rfl rfl)
theorem dL_law_805 : decode cL_law 805 = .ok (.iconst 1, 1) := dk_4 (dk_at dksL_law_28 17 rfl rfl)
theorem dL_law_806 : decode cL_law 806 = .ok (.iadd, 1) := dk_96 (dk_at dksL_law_28 18 rfl rfl)
theorem dL_law_807 : decode cL_law 807 = .ok (.iaload, 1) := dk_46 (dk_at dksL_law_28 19 rfl rfl)
theorem dL_law_808 : decode cL_law 808 = .ok (.invokevirtual 94, 3) := dk_182 0 94 (dk_at dksL_law_28 20 rfl rfl)
theorem dL_law_811 : decode cL_law 811 = .ok (.aload_n 2, 1) := dk_44 (dk_at dksL_law_28 23 rfl rfl)
theorem dL_law_812 : decode cL_law 812 = .ok (.aload_n 0, 1) := dk_42 (dk_at dksL_law_29 0 rfl rfl)
theorem dL_law_813 : decode cL_law 813 = .ok (.iload 4, 2) := dk_21 4 (dk_at dksL_law_29 1 rfl rfl)
theorem dL_law_815 : decode cL_law 815 = .ok (.iconst 1, 1) := dk_4 (dk_at dksL_law_29 3 rfl rfl)
theorem dL_law_816 : decode cL_law 816 = .ok (.iadd, 1) := dk_96 (dk_at dksL_law_29 4 rfl rfl)
theorem dL_law_817 : decode cL_law 817 = .ok (.iaload, 1) := dk_46 (dk_at dksL_law_29 5 rfl rfl)
theorem dL_law_818 : decode cL_law 818 = .ok (.invokevirtual 97, 3) := dk_182 0 97 (dk_at dksL_law_29 6 rfl rfl)
theorem dL_law_821 : decode cL_law 821 = .ok (.if_icmp .eq 648, 3) := dk_159 2 136 (dk_at dksL_law_29 9 rfl rfl)
theorem dL_law_824 : decode cL_law 824 = .ok (.iconst 0, 1) := dk_3 (dk_at dksL_law_29 12 rfl rfl)
theorem dL_law_825 : decode cL_law 825 = .ok (.ireturn, 1) := dk_172 (dk_at dksL_law_29 13 rfl rfl)
theorem dL_law_826 : decode cL_law 826 = .ok (.aload_n 1, 1) := dk_43 (dk_at dksL_law_29 14 rfl rfl)
theorem dL_law_827 : decode cL_law 827 = .ok (.aload_n 0, 1) := dk_42 (dk_at dksL_law_29 15 rfl rfl)
theorem dL_law_828 : decode cL_law 828 = .ok (.iload 4, 2) := dk_21 4 (dk_at dksL_law_29 16 rfl rfl)
theorem dL_law_830 : decode cL_law 830 = .ok (.iconst 1, 1) := dk_4 (dk_at dksL_law_29 18 rfl rfl)
theorem dL_law_831 : decode cL_law 831 = .ok (.iadd, 1) := dk_96 (dk_at dksL_law_29 19 rfl rfl)
theorem dL_law_832 : decode cL_law 832 = .ok (.iaload, 1) := dk_46 (dk_at dksL_law_29 20 rfl rfl)
theorem dL_law_833 : decode cL_law 833 = .ok (.invokevirtual 98, 3) := dk_182 0 98 (dk_at dksL_law_29 21 rfl rfl)
theorem dL_law_836 : decode cL_law 836 = .ok (.aload_n 2, 1) := dk_44 (dk_at dksL_law_30 0 rfl rfl)
theorem dL_law_837 : decode cL_law 837 = .ok (.aload_n 0, 1) := dk_42 (dk_at dksL_law_30 1 rfl rfl)
theorem dL_law_838 : decode cL_law 838 = .ok (.iload 4, 2) := dk_21 4 (dk_at dksL_law_30 2 rfl rfl)
theorem dL_law_840 : decode cL_law 840 = .ok (.iconst 1, 1) := dk_4 (dk_at dksL_law_30 4 rfl rfl)
theorem dL_law_841 : decode cL_law 841 = .ok (.iadd, 1) := dk_96 (dk_at dksL_law_30 5 rfl rfl)
theorem dL_law_842 : decode cL_law 842 = .ok (.iaload, 1) := dk_46 (dk_at dksL_law_30 6 rfl rfl)
theorem dL_law_843 : decode cL_law 843 = .ok (.invokevirtual 101, 3) := dk_182 0 101 (dk_at dksL_law_30 7 rfl rfl)
theorem dL_law_846 : decode cL_law 846 = .ok (.if_icmp .eq 623, 3) := dk_159 2 111 (dk_at dksL_law_30 10 rfl rfl)
theorem dL_law_849 : decode cL_law 849 = .ok (.iconst 0, 1) := dk_3 (dk_at dksL_law_30 13 rfl rfl)
theorem dL_law_850 : decode cL_law 850 = .ok (.ireturn, 1) := dk_172 (dk_at dksL_law_30 14 rfl rfl)
theorem dL_law_851 : decode cL_law 851 = .ok (.aload_n 1, 1) := dk_43 (dk_at dksL_law_30 15 rfl rfl)
theorem dL_law_852 : decode cL_law 852 = .ok (.aload_n 0, 1) := dk_42 (dk_at dksL_law_30 16 rfl rfl)
theorem dL_law_853 : decode cL_law 853 = .ok (.iload 4, 2) := dk_21 4 (dk_at dksL_law_30 17 rfl rfl)
theorem dL_law_855 : decode cL_law 855 = .ok (.iconst 1, 1) := dk_4 (dk_at dksL_law_30 19 rfl rfl)
theorem dL_law_856 : decode cL_law 856 = .ok (.iadd, 1) := dk_96 (dk_at dksL_law_30 20 rfl rfl)
theorem dL_law_857 : decode cL_law 857 = .ok (.iaload, 1) := dk_46 (dk_at dksL_law_30 21 rfl rfl)
theorem dL_law_858 : decode cL_law 858 = .ok (.invokevirtual 102, 3) := dk_182 0 102 (dk_at dksL_law_31 0 rfl rfl)
theorem dL_law_861 : decode cL_law 861 = .ok (.aload_n 2, 1) := dk_44 (dk_at dksL_law_31 3 rfl rfl)
theorem dL_law_862 : decode cL_law 862 = .ok (.aload_n 0, 1) := dk_42 (dk_at dksL_law_31 4 rfl rfl)
theorem dL_law_863 : decode cL_law 863 = .ok (.iload 4, 2) := dk_21 4 (dk_at dksL_law_31 5 rfl rfl)
theorem dL_law_865 : decode cL_law 865 = .ok (.iconst 1, 1) := dk_4 (dk_at dksL_law_31 7 rfl rfl)
theorem dL_law_866 : decode cL_law 866 = .ok (.iadd, 1) := dk_96 (dk_at dksL_law_31 8 rfl rfl)
theorem dL_law_867 : decode cL_law 867 = .ok (.iaload, 1) := dk_46 (dk_at dksL_law_31 9 rfl rfl)
theorem dL_law_868 : decode cL_law 868 = .ok (.invokevirtual 106, 3) := dk_182 0 106 (dk_at dksL_law_31 10 rfl rfl)
theorem dL_law_871 : decode cL_law 871 = .ok (.if_icmp .eq 598, 3) := dk_159 2 86 (dk_at dksL_law_31 13 rfl rfl)
theorem dL_law_874 : decode cL_law 874 = .ok (.iconst 0, 1) := dk_3 (dk_at dksL_law_31 16 rfl rfl)
theorem dL_law_875 : decode cL_law 875 = .ok (.ireturn, 1) := dk_172 (dk_at dksL_law_31 17 rfl rfl)
theorem dL_law_876 : decode cL_law 876 = .ok (.aload_n 1, 1) := dk_43 (dk_at dksL_law_31 18 rfl rfl)
theorem dL_law_877 : decode cL_law 877 = .ok (.aload_n 0, 1) := dk_42 (dk_at dksL_law_31 19 rfl rfl)
theorem dL_law_878 : decode cL_law 878 = .ok (.iload 4, 2) := dk_21 4 (dk_at dksL_law_31 20 rfl rfl)
theorem dL_law_880 : decode cL_law 880 = .ok (.iconst 1, 1) := dk_4 (dk_at dksL_law_31 22 rfl rfl)
theorem dL_law_881 : decode cL_law 881 = .ok (.iadd, 1) := dk_96 (dk_at dksL_law_31 23 rfl rfl)
theorem dL_law_882 : decode cL_law 882 = .ok (.iaload, 1) := dk_46 (dk_at dksL_law_32 0 rfl rfl)
theorem dL_law_883 : decode cL_law 883 = .ok (.invokevirtual 107, 3) := dk_182 0 107 (dk_at dksL_law_32 1 rfl rfl)
theorem dL_law_886 : decode cL_law 886 = .ok (.aload_n 2, 1) := dk_44 (dk_at dksL_law_32 4 rfl rfl)
theorem dL_law_887 : decode cL_law 887 = .ok (.aload_n 0, 1) := dk_42 (dk_at dksL_law_32 5 rfl rfl)
theorem dL_law_888 : decode cL_law 888 = .ok (.iload 4, 2) := dk_21 4 (dk_at dksL_law_32 6 rfl rfl)
theorem dL_law_890 : decode cL_law 890 = .ok (.iconst 1, 1) := dk_4 (dk_at dksL_law_32 8 rfl rfl)
theorem dL_law_891 : decode cL_law 891 = .ok (.iadd, 1) := dk_96 (dk_at dksL_law_32 9 rfl rfl)
theorem dL_law_892 : decode cL_law 892 = .ok (.iaload, 1) := dk_46 (dk_at dksL_law_32 10 rfl rfl)
theorem dL_law_893 : decode cL_law 893 = .ok (.invokevirtual 110, 3) := dk_182 0 110 (dk_at dksL_law_32 11 rfl rfl)
theorem dL_law_896 : decode cL_law 896 = .ok (.if_icmp .eq 573, 3) := dk_159 2 61 (dk_at dksL_law_32 14 rfl rfl)
theorem dL_law_899 : decode cL_law 899 = .ok (.iconst 0, 1) := dk_3 (dk_at dksL_law_32 17 rfl rfl)
theorem dL_law_900 : decode cL_law 900 = .ok (.ireturn, 1) := dk_172 (dk_at dksL_law_32 18 rfl rfl)
theorem dL_law_901 : decode cL_law 901 = .ok (.aload_n 1, 1) := dk_43 (dk_at dksL_law_32 19 rfl rfl)
theorem dL_law_902 : decode cL_law 902 = .ok (.aload_n 0, 1) := dk_42 (dk_at dksL_law_32 20 rfl rfl)
theorem dL_law_903 : decode cL_law 903 = .ok (.iload 4, 2) := dk_21 4 (dk_at dksL_law_32 21 rfl rfl)
theorem dL_law_905 : decode cL_law 905 = .ok (.iconst 1, 1) := dk_4 (dk_at dksL_law_32 23 rfl rfl)
theorem dL_law_906 : decode cL_law 906 = .ok (.iadd, 1) := dk_96 (dk_at dksL_law_33 0 rfl rfl)
theorem dL_law_907 : decode cL_law 907 = .ok (.iaload, 1) := dk_46 (dk_at dksL_law_33 1 rfl rfl)
theorem dL_law_908 : decode cL_law 908 = .ok (.aload_n 0, 1) := dk_42 (dk_at dksL_law_33 2 rfl rfl)
theorem dL_law_909 : decode cL_law 909 = .ok (.iload 4, 2) := dk_21 4 (dk_at dksL_law_33 3 rfl rfl)
theorem dL_law_911 : decode cL_law 911 = .ok (.iconst 2, 1) := dk_5 (dk_at dksL_law_33 5 rfl rfl)
theorem dL_law_912 : decode cL_law 912 = .ok (.iadd, 1) := dk_96 (dk_at dksL_law_33 6 rfl rfl)
theorem dL_law_913 : decode cL_law 913 = .ok (.iaload, 1) := dk_46 (dk_at dksL_law_33 7 rfl rfl)
theorem dL_law_914 : decode cL_law 914 = .ok (.aload_n 3, 1) := dk_45 (dk_at dksL_law_33 8 rfl rfl)
theorem dL_law_915 : decode cL_law 915 = .ok (.invokestatic 111, 3) := dk_184 0 111 (dk_at dksL_law_33 9 rfl rfl)
theorem dL_law_918 : decode cL_law 918 = .ok (.istore 5, 2) := dk_54 5 (dk_at dksL_law_33 12 rfl rfl)
theorem dL_law_920 : decode cL_law 920 = .ok (.aload_n 2, 1) := dk_44 (dk_at dksL_law_33 14 rfl rfl)
theorem dL_law_921 : decode cL_law 921 = .ok (.aload_n 0, 1) := dk_42 (dk_at dksL_law_33 15 rfl rfl)
theorem dL_law_922 : decode cL_law 922 = .ok (.iload 4, 2) := dk_21 4 (dk_at dksL_law_33 16 rfl rfl)
theorem dL_law_924 : decode cL_law 924 = .ok (.iconst 1, 1) := dk_4 (dk_at dksL_law_33 18 rfl rfl)
theorem dL_law_925 : decode cL_law 925 = .ok (.iadd, 1) := dk_96 (dk_at dksL_law_33 19 rfl rfl)
theorem dL_law_926 : decode cL_law 926 = .ok (.iaload, 1) := dk_46 (dk_at dksL_law_33 20 rfl rfl)
theorem dL_law_927 : decode cL_law 927 = .ok (.aload_n 0, 1) := dk_42 (dk_at dksL_law_33 21 rfl rfl)
theorem dL_law_928 : decode cL_law 928 = .ok (.iload 4, 2) := dk_21 4 (dk_at dksL_law_33 22 rfl rfl)
theorem dL_law_930 : decode cL_law 930 = .ok (.iconst 2, 1) := dk_5 (dk_at dksL_law_34 0 rfl rfl)
theorem dL_law_931 : decode cL_law 931 = .ok (.iadd, 1) := dk_96 (dk_at dksL_law_34 1 rfl rfl)
theorem dL_law_932 : decode cL_law 932 = .ok (.iaload, 1) := dk_46 (dk_at dksL_law_34 2 rfl rfl)
theorem dL_law_933 : decode cL_law 933 = .ok (.invokevirtual 116, 3) := dk_182 0 116 (dk_at dksL_law_34 3 rfl rfl)
theorem dL_law_936 : decode cL_law 936 = .ok (.istore 6, 2) := dk_54 6 (dk_at dksL_law_34 6 rfl rfl)
theorem dL_law_938 : decode cL_law 938 = .ok (.aload_n 2, 1) := dk_44 (dk_at dksL_law_34 8 rfl rfl)
theorem dL_law_939 : decode cL_law 939 = .ok (.invokevirtual 117, 3) := dk_182 0 117 (dk_at dksL_law_34 9 rfl rfl)
theorem dL_law_942 : decode cL_law 942 = .ok (.iload 5, 2) := dk_21 5 (dk_at dksL_law_34 12 rfl rfl)
theorem dL_law_944 : decode cL_law 944 = .ok (.if_icmp .eq 5, 3) := dk_159 0 5 (dk_at dksL_law_34 14 rfl rfl)
theorem dL_law_947 : decode cL_law 947 = .ok (.iconst 0, 1) := dk_3 (dk_at dksL_law_34 17 rfl rfl)
theorem dL_law_948 : decode cL_law 948 = .ok (.ireturn, 1) := dk_172 (dk_at dksL_law_34 18 rfl rfl)
theorem dL_law_949 : decode cL_law 949 = .ok (.iload 5, 2) := dk_21 5 (dk_at dksL_law_34 19 rfl rfl)
theorem dL_law_951 : decode cL_law 951 = .ok (.ifCond .ne 15, 3) := dk_154 0 15 (dk_at dksL_law_34 21 rfl rfl)
theorem dL_law_954 : decode cL_law 954 = .ok (.aload_n 3, 1) := dk_45 (dk_at dksL_law_35 0 rfl rfl)
theorem dL_law_955 : decode cL_law 955 = .ok (.iconst 0, 1) := dk_3 (dk_at dksL_law_35 1 rfl rfl)
theorem dL_law_956 : decode cL_law 956 = .ok (.laload, 1) := dk_47 (dk_at dksL_law_35 2 rfl rfl)
theorem dL_law_957 : decode cL_law 957 = .ok (.iload 6, 2) := dk_21 6 (dk_at dksL_law_35 3 rfl rfl)
theorem dL_law_959 : decode cL_law 959 = .ok (.i2l, 1) := dk_133 (dk_at dksL_law_35 5 rfl rfl)
theorem dL_law_960 : decode cL_law 960 = .ok (.lcmp, 1) := dk_148 (dk_at dksL_law_35 6 rfl rfl)
theorem dL_law_961 : decode cL_law 961 = .ok (.ifCond .eq 5, 3) := dk_153 0 5 (dk_at dksL_law_35 7 rfl rfl)
theorem dL_law_964 : decode cL_law 964 = .ok (.iconst 0, 1) := dk_3 (dk_at dksL_law_35 10 rfl rfl)
theorem dL_law_965 : decode cL_law 965 = .ok (.ireturn, 1) := dk_172 (dk_at dksL_law_35 11 rfl rfl)
theorem dL_law_966 : decode cL_law 966 = .ok (.goto 503, 3) := dk_167 1 247 (dk_at dksL_law_35 12 rfl rfl)
theorem dL_law_969 : decode cL_law 969 = .ok (.aload_n 1, 1) := dk_43 (dk_at dksL_law_35 15 rfl rfl)
theorem dL_law_970 : decode cL_law 970 = .ok (.aload_n 0, 1) := dk_42 (dk_at dksL_law_35 16 rfl rfl)
theorem dL_law_971 : decode cL_law 971 = .ok (.iload 4, 2) := dk_21 4 (dk_at dksL_law_35 17 rfl rfl)
theorem dL_law_973 : decode cL_law 973 = .ok (.iconst 1, 1) := dk_4 (dk_at dksL_law_35 19 rfl rfl)
theorem dL_law_974 : decode cL_law 974 = .ok (.iadd, 1) := dk_96 (dk_at dksL_law_35 20 rfl rfl)
theorem dL_law_975 : decode cL_law 975 = .ok (.iaload, 1) := dk_46 (dk_at dksL_law_35 21 rfl rfl)
theorem dL_law_976 : decode cL_law 976 = .ok (.aload_n 0, 1) := dk_42 (dk_at dksL_law_35 22 rfl rfl)
theorem dL_law_977 : decode cL_law 977 = .ok (.iload 4, 2) := dk_21 4 (dk_at dksL_law_36 0 rfl rfl)
theorem dL_law_979 : decode cL_law 979 = .ok (.iconst 2, 1) := dk_5 (dk_at dksL_law_36 2 rfl rfl)
theorem dL_law_980 : decode cL_law 980 = .ok (.iadd, 1) := dk_96 (dk_at dksL_law_36 3 rfl rfl)
theorem dL_law_981 : decode cL_law 981 = .ok (.iaload, 1) := dk_46 (dk_at dksL_law_36 4 rfl rfl)
theorem dL_law_982 : decode cL_law 982 = .ok (.aload_n 0, 1) := dk_42 (dk_at dksL_law_36 5 rfl rfl)
theorem dL_law_983 : decode cL_law 983 = .ok (.iload 4, 2) := dk_21 4 (dk_at dksL_law_36 6 rfl rfl)
theorem dL_law_985 : decode cL_law 985 = .ok (.iconst 3, 1) := dk_6 (dk_at dksL_law_36 8 rfl rfl)
theorem dL_law_986 : decode cL_law 986 = .ok (.iadd, 1) := dk_96 (dk_at dksL_law_36 9 rfl rfl)
theorem dL_law_987 : decode cL_law 987 = .ok (.iaload, 1) := dk_46 (dk_at dksL_law_36 10 rfl rfl)
theorem dL_law_988 : decode cL_law 988 = .ok (.invokevirtual 120, 3) := dk_182 0 120 (dk_at dksL_law_36 11 rfl rfl)
theorem dL_law_991 : decode cL_law 991 = .ok (.aload_n 2, 1) := dk_44 (dk_at dksL_law_36 14 rfl rfl)
theorem dL_law_992 : decode cL_law 992 = .ok (.aload_n 0, 1) := dk_42 (dk_at dksL_law_36 15 rfl rfl)
theorem dL_law_993 : decode cL_law 993 = .ok (.iload 4, 2) := dk_21 4 (dk_at dksL_law_36 16 rfl rfl)
theorem dL_law_995 : decode cL_law 995 = .ok (.iconst 1, 1) := dk_4 (dk_at dksL_law_36 18 rfl rfl)
theorem dL_law_996 : decode cL_law 996 = .ok (.iadd, 1) := dk_96 (dk_at dksL_law_36 19 rfl rfl)
theorem dL_law_997 : decode cL_law 997 = .ok (.iaload, 1) := dk_46 (dk_at dksL_law_36 20 rfl rfl)
theorem dL_law_998 : decode cL_law 998 = .ok (.aload_n 0, 1) := dk_42 (dk_at dksL_law_36 21 rfl rfl)
theorem dL_law_999 : decode cL_law 999 = .ok (.iload 4, 2) := dk_21 4 (dk_at dksL_law_36 22 rfl rfl)
theorem dL_law_1001 : decode cL_law 1001 = .ok (.iconst 2, 1) := dk_5 (dk_at dksL_law_37 0 rfl rfl)
theorem dL_law_1002 : decode cL_law 1002 = .ok (.iadd, 1) := dk_96 (dk_at dksL_law_37 1 rfl rfl)
theorem dL_law_1003 : decode cL_law 1003 = .ok (.iaload, 1) := dk_46 (dk_at dksL_law_37 2 rfl rfl)
theorem dL_law_1004 : decode cL_law 1004 = .ok (.aload_n 0, 1) := dk_42 (dk_at dksL_law_37 3 rfl rfl)
theorem dL_law_1005 : decode cL_law 1005 = .ok (.iload 4, 2) := dk_21 4 (dk_at dksL_law_37 4 rfl rfl)
theorem dL_law_1007 : decode cL_law 1007 = .ok (.iconst 3, 1) := dk_6 (dk_at dksL_law_37 6 rfl rfl)
theorem dL_law_1008 : decode cL_law 1008 = .ok (.iadd, 1) := dk_96 (dk_at dksL_law_37 7 rfl rfl)
theorem dL_law_1009 : decode cL_law 1009 = .ok (.iaload, 1) := dk_46 (dk_at dksL_law_37 8 rfl rfl)
theorem dL_law_1010 : decode cL_law 1010 = .ok (.invokevirtual 123, 3) := dk_182 0 123 (dk_at dksL_law_37 9 rfl rfl)
theorem dL_law_1013 : decode cL_law 1013 = .ok (.if_icmp .eq 456, 3) := dk_159 1 200 (dk_at dksL_law_37 12 rfl rfl)
theorem dL_law_1016 : decode cL_law 1016 = .ok (.iconst 0, 1) := dk_3 (dk_at dksL_law_37 15 rfl rfl)
theorem dL_law_1017 : decode cL_law 1017 = .ok (.ireturn, 1) := dk_172 (dk_at dksL_law_37 16 rfl rfl)
theorem dL_law_1018 : decode cL_law 1018 = .ok (.aload_n 1, 1) := dk_43 (dk_at dksL_law_37 17 rfl rfl)
theorem dL_law_1019 : decode cL_law 1019 = .ok (.aload_n 0, 1) := dk_42 (dk_at dksL_law_37 18 rfl rfl)
theorem dL_law_1020 : decode cL_law 1020 = .ok (.iload 4, 2) := dk_21 4 (dk_at dksL_law_37 19 rfl rfl)
theorem dL_law_1022 : decode cL_law 1022 = .ok (.iconst 1, 1) := dk_4 (dk_at dksL_law_37 21 rfl rfl)
theorem dL_law_1023 : decode cL_law 1023 = .ok (.iadd, 1) := dk_96 (dk_at dksL_law_37 22 rfl rfl)
theorem dL_law_1024 : decode cL_law 1024 = .ok (.iaload, 1) := dk_46 (dk_at dksL_law_37 23 rfl rfl)
theorem dL_law_1025 : decode cL_law 1025 = .ok (.aload_n 0, 1) := dk_42 (dk_at dksL_law_38 0 rfl rfl)
theorem dL_law_1026 : decode cL_law 1026 = .ok (.iload 4, 2) := dk_21 4 (dk_at dksL_law_38 1 rfl rfl)
theorem dL_law_1028 : decode cL_law 1028 = .ok (.iconst 2, 1) := dk_5 (dk_at dksL_law_38 3 rfl rfl)
theorem dL_law_1029 : decode cL_law 1029 = .ok (.iadd, 1) := dk_96 (dk_at dksL_law_38 4 rfl rfl)
theorem dL_law_1030 : decode cL_law 1030 = .ok (.iaload, 1) := dk_46 (dk_at dksL_law_38 5 rfl rfl)
theorem dL_law_1031 : decode cL_law 1031 = .ok (.invokevirtual 124, 3) := dk_182 0 124 (dk_at dksL_law_38 6 rfl rfl)
theorem dL_law_1034 : decode cL_law 1034 = .ok (.aload_n 2, 1) := dk_44 (dk_at dksL_law_38 9 rfl rfl)
theorem dL_law_1035 : decode cL_law 1035 = .ok (.aload_n 0, 1) := dk_42 (dk_at dksL_law_38 10 rfl rfl)
theorem dL_law_1036 : decode cL_law 1036 = .ok (.iload 4, 2) := dk_21 4 (dk_at dksL_law_38 11 rfl rfl)
theorem dL_law_1038 : decode cL_law 1038 = .ok (.iconst 1, 1) := dk_4 (dk_at dksL_law_38 13 rfl rfl)
theorem dL_law_1039 : decode cL_law 1039 = .ok (.iadd, 1) := dk_96 (dk_at dksL_law_38 14 rfl rfl)
theorem dL_law_1040 : decode cL_law 1040 = .ok (.iaload, 1) := dk_46 (dk_at dksL_law_38 15 rfl rfl)
theorem dL_law_1041 : decode cL_law 1041 = .ok (.aload_n 0, 1) := dk_42 (dk_at dksL_law_38 16 rfl rfl)
theorem dL_law_1042 : decode cL_law 1042 = .ok (.iload 4, 2) := dk_21 4 (dk_at dksL_law_38 17 rfl rfl)
theorem dL_law_1044 : decode cL_law 1044 = .ok (.iconst 2, 1) := dk_5 (dk_at dksL_law_38 19 rfl rfl)
theorem dL_law_1045 : decode cL_law 1045 = .ok (.iadd, 1) := dk_96 (dk_at dksL_law_38 20 rfl rfl)
theorem dL_law_1046 : decode cL_law 1046 = .ok (.iaload, 1) := dk_46 (dk_at dksL_law_38 21 rfl rfl)
theorem dL_law_1047 : decode cL_law 1047 = .ok (.invokevirtual 127, 3) := dk_182 0 127 (dk_at dksL_law_39 0 rfl rfl)
theorem dL_law_1050 : decode cL_law 1050 = .ok (.if_icmp .eq 419, 3) := dk_159 1 163 (dk_at dksL_law_39 3 rfl rfl)
theorem dL_law_1053 : decode cL_law 1053 = .ok (.iconst 0, 1) := dk_3 (dk_at dksL_law_39 6 rfl rfl)
theorem dL_law_1054 : decode cL_law 1054 = .ok (.ireturn, 1) := dk_172 (dk_at dksL_law_39 7 rfl rfl)
theorem dL_law_1055 : decode cL_law 1055 = .ok (.aload_n 1, 1) := dk_43 (dk_at dksL_law_39 8 rfl rfl)
theorem dL_law_1056 : decode cL_law 1056 = .ok (.aload_n 0, 1) := dk_42 (dk_at dksL_law_39 9 rfl rfl)
theorem dL_law_1057 : decode cL_law 1057 = .ok (.iload 4, 2) := dk_21 4 (dk_at dksL_law_39 10 rfl rfl)
theorem dL_law_1059 : decode cL_law 1059 = .ok (.iconst 1, 1) := dk_4 (dk_at dksL_law_39 12 rfl rfl)
theorem dL_law_1060 : decode cL_law 1060 = .ok (.iadd, 1) := dk_96 (dk_at dksL_law_39 13 rfl rfl)
theorem dL_law_1061 : decode cL_law 1061 = .ok (.iaload, 1) := dk_46 (dk_at dksL_law_39 14 rfl rfl)
theorem dL_law_1062 : decode cL_law 1062 = .ok (.aload_n 0, 1) := dk_42 (dk_at dksL_law_39 15 rfl rfl)
theorem dL_law_1063 : decode cL_law 1063 = .ok (.iload 4, 2) := dk_21 4 (dk_at dksL_law_39 16 rfl rfl)
theorem dL_law_1065 : decode cL_law 1065 = .ok (.iconst 2, 1) := dk_5 (dk_at dksL_law_39 18 rfl rfl)
theorem dL_law_1066 : decode cL_law 1066 = .ok (.iadd, 1) := dk_96 (dk_at dksL_law_39 19 rfl rfl)
theorem dL_law_1067 : decode cL_law 1067 = .ok (.iaload, 1) := dk_46 (dk_at dksL_law_39 20 rfl rfl)
theorem dL_law_1068 : decode cL_law 1068 = .ok (.invokevirtual 128, 3) := dk_182 0 128 (dk_at dksL_law_39 21 rfl rfl)
theorem dL_law_1071 : decode cL_law 1071 = .ok (.aload_n 2, 1) := dk_44 (dk_at dksL_law_40 0 rfl rfl)
theorem dL_law_1072 : decode cL_law 1072 = .ok (.aload_n 0, 1) := dk_42 (dk_at dksL_law_40 1 rfl rfl)
theorem dL_law_1073 : decode cL_law 1073 = .ok (.iload 4, 2) := dk_21 4 (dk_at dksL_law_40 2 rfl rfl)
theorem dL_law_1075 : decode cL_law 1075 = .ok (.iconst 1, 1) := dk_4 (dk_at dksL_law_40 4 rfl rfl)
theorem dL_law_1076 : decode cL_law 1076 = .ok (.iadd, 1) := dk_96 (dk_at dksL_law_40 5 rfl rfl)
theorem dL_law_1077 : decode cL_law 1077 = .ok (.iaload, 1) := dk_46 (dk_at dksL_law_40 6 rfl rfl)
theorem dL_law_1078 : decode cL_law 1078 = .ok (.aload_n 0, 1) := dk_42 (dk_at dksL_law_40 7 rfl rfl)
theorem dL_law_1079 : decode cL_law 1079 = .ok (.iload 4, 2) := dk_21 4 (dk_at dksL_law_40 8 rfl rfl)
theorem dL_law_1081 : decode cL_law 1081 = .ok (.iconst 2, 1) := dk_5 (dk_at dksL_law_40 10 rfl rfl)
theorem dL_law_1082 : decode cL_law 1082 = .ok (.iadd, 1) := dk_96 (dk_at dksL_law_40 11 rfl rfl)
theorem dL_law_1083 : decode cL_law 1083 = .ok (.iaload, 1) := dk_46 (dk_at dksL_law_40 12 rfl rfl)
theorem dL_law_1084 : decode cL_law 1084 = .ok (.invokevirtual 131, 3) := dk_182 0 131 (dk_at dksL_law_40 13 rfl rfl)
theorem dL_law_1087 : decode cL_law 1087 = .ok (.if_icmp .eq 382, 3) := dk_159 1 126 (dk_at dksL_law_40 16 rfl rfl)
theorem dL_law_1090 : decode cL_law 1090 = .ok (.iconst 0, 1) := dk_3 (dk_at dksL_law_40 19 rfl rfl)
theorem dL_law_1091 : decode cL_law 1091 = .ok (.ireturn, 1) := dk_172 (dk_at dksL_law_40 20 rfl rfl)
theorem dL_law_1092 : decode cL_law 1092 = .ok (.aload_n 1, 1) := dk_43 (dk_at dksL_law_40 21 rfl rfl)
theorem dL_law_1093 : decode cL_law 1093 = .ok (.aload_n 0, 1) := dk_42 (dk_at dksL_law_40 22 rfl rfl)
theorem dL_law_1094 : decode cL_law 1094 = .ok (.iload 4, 2) := dk_21 4 (dk_at dksL_law_41 0 rfl rfl)
theorem dL_law_1096 : decode cL_law 1096 = .ok (.iconst 1, 1) := dk_4 (dk_at dksL_law_41 2 rfl rfl)
theorem dL_law_1097 : decode cL_law 1097 = .ok (.iadd, 1) := dk_96 (dk_at dksL_law_41 3 rfl rfl)
theorem dL_law_1098 : decode cL_law 1098 = .ok (.iaload, 1) := dk_46 (dk_at dksL_law_41 4 rfl rfl)
theorem dL_law_1099 : decode cL_law 1099 = .ok (.aload_n 0, 1) := dk_42 (dk_at dksL_law_41 5 rfl rfl)
theorem dL_law_1100 : decode cL_law 1100 = .ok (.iload 4, 2) := dk_21 4 (dk_at dksL_law_41 6 rfl rfl)
theorem dL_law_1102 : decode cL_law 1102 = .ok (.iconst 2, 1) := dk_5 (dk_at dksL_law_41 8 rfl rfl)
theorem dL_law_1103 : decode cL_law 1103 = .ok (.iadd, 1) := dk_96 (dk_at dksL_law_41 9 rfl rfl)
theorem dL_law_1104 : decode cL_law 1104 = .ok (.iaload, 1) := dk_46 (dk_at dksL_law_41 10 rfl rfl)
theorem dL_law_1105 : decode cL_law 1105 = .ok (.invokevirtual 132, 3) := dk_182 0 132 (dk_at dksL_law_41 11 rfl rfl)
theorem dL_law_1108 : decode cL_law 1108 = .ok (.aload_n 2, 1) := dk_44 (dk_at dksL_law_41 14 rfl rfl)
theorem dL_law_1109 : decode cL_law 1109 = .ok (.aload_n 0, 1) := dk_42 (dk_at dksL_law_41 15 rfl rfl)
theorem dL_law_1110 : decode cL_law 1110 = .ok (.iload 4, 2) := dk_21 4 (dk_at dksL_law_41 16 rfl rfl)
theorem dL_law_1112 : decode cL_law 1112 = .ok (.iconst 1, 1) := dk_4 (dk_at dksL_law_41 18 rfl rfl)
theorem dL_law_1113 : decode cL_law 1113 = .ok (.iadd, 1) := dk_96 (dk_at dksL_law_41 19 rfl rfl)
theorem dL_law_1114 : decode cL_law 1114 = .ok (.iaload, 1) := dk_46 (dk_at dksL_law_41 20 rfl rfl)
theorem dL_law_1115 : decode cL_law 1115 = .ok (.aload_n 0, 1) := dk_42 (dk_at dksL_law_41 21 rfl rfl)
theorem dL_law_1116 : decode cL_law 1116 = .ok (.iload 4, 2) := dk_21 4 (dk_at dksL_law_41 22 rfl rfl)
theorem dL_law_1118 : decode cL_law 1118 = .ok (.iconst 2, 1) := dk_5 (dk_at dksL_law_42 0 rfl rfl)
theorem dL_law_1119 : decode cL_law 1119 = .ok (.iadd, 1) := dk_96 (dk_at dksL_law_42 1 rfl rfl)
theorem dL_law_1120 : decode cL_law 1120 = .ok (.iaload, 1) := dk_46 (dk_at dksL_law_42 2 rfl rfl)
theorem dL_law_1121 : decode cL_law 1121 = .ok (.invokevirtual 135, 3) := dk_182 0 135 (dk_at dksL_law_42 3 rfl rfl)
theorem dL_law_1124 : decode cL_law 1124 = .ok (.if_icmp .eq 345, 3) := dk_159 1 89 (dk_at dksL_law_42 6 rfl rfl)
theorem dL_law_1127 : decode cL_law 1127 = .ok (.iconst 0, 1) := dk_3 (dk_at dksL_law_42 9 rfl rfl)
theorem dL_law_1128 : decode cL_law 1128 = .ok (.ireturn, 1) := dk_172 (dk_at dksL_law_42 10 rfl rfl)
theorem dL_law_1129 : decode cL_law 1129 = .ok (.aload_n 1, 1) := dk_43 (dk_at dksL_law_42 11 rfl rfl)
theorem dL_law_1130 : decode cL_law 1130 = .ok (.aload_n 0, 1) := dk_42 (dk_at dksL_law_42 12 rfl rfl)
theorem dL_law_1131 : decode cL_law 1131 = .ok (.iload 4, 2) := dk_21 4 (dk_at dksL_law_42 13 rfl rfl)
theorem dL_law_1133 : decode cL_law 1133 = .ok (.iconst 1, 1) := dk_4 (dk_at dksL_law_42 15 rfl rfl)
theorem dL_law_1134 : decode cL_law 1134 = .ok (.iadd, 1) := dk_96 (dk_at dksL_law_42 16 rfl rfl)
theorem dL_law_1135 : decode cL_law 1135 = .ok (.iaload, 1) := dk_46 (dk_at dksL_law_42 17 rfl rfl)
theorem dL_law_1136 : decode cL_law 1136 = .ok (.aload_n 0, 1) := dk_42 (dk_at dksL_law_42 18 rfl rfl)
theorem dL_law_1137 : decode cL_law 1137 = .ok (.iload 4, 2) := dk_21 4 (dk_at dksL_law_42 19 rfl rfl)
theorem dL_law_1139 : decode cL_law 1139 = .ok (.iconst 2, 1) := dk_5 (dk_at dksL_law_42 21 rfl rfl)
theorem dL_law_1140 : decode cL_law 1140 = .ok (.iadd, 1) := dk_96 (dk_at dksL_law_42 22 rfl rfl)
theorem dL_law_1141 : decode cL_law 1141 = .ok (.iaload, 1) := dk_46 (dk_at dksL_law_42 23 rfl rfl)
theorem dL_law_1142 : decode cL_law 1142 = .ok (.invokevirtual 136, 3) := dk_182 0 136 (dk_at dksL_law_43 0 rfl rfl)
theorem dL_law_1145 : decode cL_law 1145 = .ok (.aload_n 2, 1) := dk_44 (dk_at dksL_law_43 3 rfl rfl)
theorem dL_law_1146 : decode cL_law 1146 = .ok (.aload_n 0, 1) := dk_42 (dk_at dksL_law_43 4 rfl rfl)
theorem dL_law_1147 : decode cL_law 1147 = .ok (.iload 4, 2) := dk_21 4 (dk_at dksL_law_43 5 rfl rfl)
theorem dL_law_1149 : decode cL_law 1149 = .ok (.iconst 1, 1) := dk_4 (dk_at dksL_law_43 7 rfl rfl)
theorem dL_law_1150 : decode cL_law 1150 = .ok (.iadd, 1) := dk_96 (dk_at dksL_law_43 8 rfl rfl)
theorem dL_law_1151 : decode cL_law 1151 = .ok (.iaload, 1) := dk_46 (dk_at dksL_law_43 9 rfl rfl)
theorem dL_law_1152 : decode cL_law 1152 = .ok (.aload_n 0, 1) := dk_42 (dk_at dksL_law_43 10 rfl rfl)
theorem dL_law_1153 : decode cL_law 1153 = .ok (.iload 4, 2) := dk_21 4 (dk_at dksL_law_43 11 rfl rfl)
theorem dL_law_1155 : decode cL_law 1155 = .ok (.iconst 2, 1) := dk_5 (dk_at dksL_law_43 13 rfl rfl)
theorem dL_law_1156 : decode cL_law 1156 = .ok (.iadd, 1) := dk_96 (dk_at dksL_law_43 14 rfl rfl)
theorem dL_law_1157 : decode cL_law 1157 = .ok (.iaload, 1) := dk_46 (dk_at dksL_law_43 15 rfl rfl)
theorem dL_law_1158 : decode cL_law 1158 = .ok (.invokevirtual 139, 3) := dk_182 0 139 (dk_at dksL_law_43 16 rfl rfl)
theorem dL_law_1161 : decode cL_law 1161 = .ok (.if_icmp .eq 308, 3) := dk_159 1 52 (dk_at dksL_law_43 19 rfl rfl)
theorem dL_law_1164 : decode cL_law 1164 = .ok (.iconst 0, 1) := dk_3 (dk_at dksL_law_43 22 rfl rfl)
theorem dL_law_1165 : decode cL_law 1165 = .ok (.ireturn, 1) := dk_172 (dk_at dksL_law_43 23 rfl rfl)
theorem dL_law_1166 : decode cL_law 1166 = .ok (.aload_n 1, 1) := dk_43 (dk_at dksL_law_44 0 rfl rfl)
theorem dL_law_1167 : decode cL_law 1167 = .ok (.aload_n 0, 1) := dk_42 (dk_at dksL_law_44 1 rfl rfl)
theorem dL_law_1168 : decode cL_law 1168 = .ok (.iload 4, 2) := dk_21 4 (dk_at dksL_law_44 2 rfl rfl)
theorem dL_law_1170 : decode cL_law 1170 = .ok (.iconst 1, 1) := dk_4 (dk_at dksL_law_44 4 rfl rfl)
theorem dL_law_1171 : decode cL_law 1171 = .ok (.iadd, 1) := dk_96 (dk_at dksL_law_44 5 rfl rfl)
theorem dL_law_1172 : decode cL_law 1172 = .ok (.iaload, 1) := dk_46 (dk_at dksL_law_44 6 rfl rfl)
theorem dL_law_1173 : decode cL_law 1173 = .ok (.aload_n 0, 1) := dk_42 (dk_at dksL_law_44 7 rfl rfl)
theorem dL_law_1174 : decode cL_law 1174 = .ok (.iload 4, 2) := dk_21 4 (dk_at dksL_law_44 8 rfl rfl)
theorem dL_law_1176 : decode cL_law 1176 = .ok (.iconst 2, 1) := dk_5 (dk_at dksL_law_44 10 rfl rfl)
theorem dL_law_1177 : decode cL_law 1177 = .ok (.iadd, 1) := dk_96 (dk_at dksL_law_44 11 rfl rfl)
theorem dL_law_1178 : decode cL_law 1178 = .ok (.iaload, 1) := dk_46 (dk_at dksL_law_44 12 rfl rfl)
theorem dL_law_1179 : decode cL_law 1179 = .ok (.aload_n 0, 1) := dk_42 (dk_at dksL_law_44 13 rfl rfl)
theorem dL_law_1180 : decode cL_law 1180 = .ok (.iload 4, 2) := dk_21 4 (dk_at dksL_law_44 14 rfl rfl)
theorem dL_law_1182 : decode cL_law 1182 = .ok (.iconst 3, 1) := dk_6 (dk_at dksL_law_44 16 rfl rfl)
theorem dL_law_1183 : decode cL_law 1183 = .ok (.iadd, 1) := dk_96 (dk_at dksL_law_44 17 rfl rfl)
theorem dL_law_1184 : decode cL_law 1184 = .ok (.iaload, 1) := dk_46 (dk_at dksL_law_44 18 rfl rfl)
theorem dL_law_1185 : decode cL_law 1185 = .ok (.invokevirtual 140, 3) := dk_182 0 140 (dk_at dksL_law_44 19 rfl rfl)
theorem dL_law_1188 : decode cL_law 1188 = .ok (.aload_n 2, 1) := dk_44 (dk_at dksL_law_44 22 rfl rfl)
theorem dL_law_1189 : decode cL_law 1189 = .ok (.aload_n 0, 1) := dk_42 (dk_at dksL_law_44 23 rfl rfl)
theorem dL_law_1190 : decode cL_law 1190 = .ok (.iload 4, 2) := dk_21 4 (dk_at dksL_law_45 0 rfl rfl)
theorem dL_law_1192 : decode cL_law 1192 = .ok (.iconst 1, 1) := dk_4 (dk_at dksL_law_45 2 rfl rfl)
theorem dL_law_1193 : decode cL_law 1193 = .ok (.iadd, 1) := dk_96 (dk_at dksL_law_45 3 rfl rfl)
theorem dL_law_1194 : decode cL_law 1194 = .ok (.iaload, 1) := dk_46 (dk_at dksL_law_45 4 rfl rfl)
theorem dL_law_1195 : decode cL_law 1195 = .ok (.aload_n 0, 1) := dk_42 (dk_at dksL_law_45 5 rfl rfl)
theorem dL_law_1196 : decode cL_law 1196 = .ok (.iload 4, 2) := dk_21 4 (dk_at dksL_law_45 6 rfl rfl)
theorem dL_law_1198 : decode cL_law 1198 = .ok (.iconst 2, 1) := dk_5 (dk_at dksL_law_45 8 rfl rfl)
theorem dL_law_1199 : decode cL_law 1199 = .ok (.iadd, 1) := dk_96 (dk_at dksL_law_45 9 rfl rfl)
theorem dL_law_1200 : decode cL_law 1200 = .ok (.iaload, 1) := dk_46 (dk_at dksL_law_45 10 rfl rfl)
theorem dL_law_1201 : decode cL_law 1201 = .ok (.aload_n 0, 1) := dk_42 (dk_at dksL_law_45 11 rfl rfl)
theorem dL_law_1202 : decode cL_law 1202 = .ok (.iload 4, 2) := dk_21 4 (dk_at dksL_law_45 12 rfl rfl)
theorem dL_law_1204 : decode cL_law 1204 = .ok (.iconst 3, 1) := dk_6 (dk_at dksL_law_45 14 rfl rfl)
theorem dL_law_1205 : decode cL_law 1205 = .ok (.iadd, 1) := dk_96 (dk_at dksL_law_45 15 rfl rfl)
theorem dL_law_1206 : decode cL_law 1206 = .ok (.iaload, 1) := dk_46 (dk_at dksL_law_45 16 rfl rfl)
theorem dL_law_1207 : decode cL_law 1207 = .ok (.invokevirtual 143, 3) := dk_182 0 143 (dk_at dksL_law_45 17 rfl rfl)
theorem dL_law_1210 : decode cL_law 1210 = .ok (.if_icmp .eq 259, 3) := dk_159 1 3 (dk_at dksL_law_45 20 rfl rfl)
theorem dL_law_1213 : decode cL_law 1213 = .ok (.iconst 0, 1) := dk_3 (dk_at dksL_law_45 23 rfl rfl)
theorem dL_law_1214 : decode cL_law 1214 = .ok (.ireturn, 1) := dk_172 (dk_at dksL_law_46 0 rfl rfl)
theorem dL_law_1215 : decode cL_law 1215 = .ok (.aload_n 1, 1) := dk_43 (dk_at dksL_law_46 1 rfl rfl)
theorem dL_law_1216 : decode cL_law 1216 = .ok (.aload_n 0, 1) := dk_42 (dk_at dksL_law_46 2 rfl rfl)
theorem dL_law_1217 : decode cL_law 1217 = .ok (.iload 4, 2) := dk_21 4 (dk_at dksL_law_46 3 rfl rfl)
theorem dL_law_1219 : decode cL_law 1219 = .ok (.iconst 1, 1) := dk_4 (dk_at dksL_law_46 5 rfl rfl)
theorem dL_law_1220 : decode cL_law 1220 = .ok (.iadd, 1) := dk_96 (dk_at dksL_law_46 6 rfl rfl)
theorem dL_law_1221 : decode cL_law 1221 = .ok (.iaload, 1) := dk_46 (dk_at dksL_law_46 7 rfl rfl)
theorem dL_law_1222 : decode cL_law 1222 = .ok (.invokevirtual 144, 3) := dk_182 0 144 (dk_at dksL_law_46 8 rfl rfl)
theorem dL_law_1225 : decode cL_law 1225 = .ok (.aload_n 2, 1) := dk_44 (dk_at dksL_law_46 11 rfl rfl)
theorem dL_law_1226 : decode cL_law 1226 = .ok (.aload_n 0, 1) := dk_42 (dk_at dksL_law_46 12 rfl rfl)
theorem dL_law_1227 : decode cL_law 1227 = .ok (.iload 4, 2) := dk_21 4 (dk_at dksL_law_46 13 rfl rfl)
theorem dL_law_1229 : decode cL_law 1229 = .ok (.iconst 1, 1) := dk_4 (dk_at dksL_law_46 15 rfl rfl)
theorem dL_law_1230 : decode cL_law 1230 = .ok (.iadd, 1) := dk_96 (dk_at dksL_law_46 16 rfl rfl)
theorem dL_law_1231 : decode cL_law 1231 = .ok (.iaload, 1) := dk_46 (dk_at dksL_law_46 17 rfl rfl)
theorem dL_law_1232 : decode cL_law 1232 = .ok (.invokevirtual 147, 3) := dk_182 0 147 (dk_at dksL_law_46 18 rfl rfl)
theorem dL_law_1235 : decode cL_law 1235 = .ok (.if_icmp .eq 234, 3) := dk_159 0 234 (dk_at dksL_law_46 21 rfl rfl)
theorem dL_law_1238 : decode cL_law 1238 = .ok (.iconst 0, 1) := dk_3 (dk_at dksL_law_47 0 rfl rfl)
theorem dL_law_1239 : decode cL_law 1239 = .ok (.ireturn, 1) := dk_172 (dk_at dksL_law_47 1 rfl rfl)
theorem dL_law_1240 : decode cL_law 1240 = .ok (.aload_n 1, 1) := dk_43 (dk_at dksL_law_47 2 rfl rfl)
theorem dL_law_1241 : decode cL_law 1241 = .ok (.aload_n 0, 1) := dk_42 (dk_at dksL_law_47 3 rfl rfl)
theorem dL_law_1242 : decode cL_law 1242 = .ok (.iload 4, 2) := dk_21 4 (dk_at dksL_law_47 4 rfl rfl)
theorem dL_law_1244 : decode cL_law 1244 = .ok (.iconst 1, 1) := dk_4 (dk_at dksL_law_47 6 rfl rfl)
theorem dL_law_1245 : decode cL_law 1245 = .ok (.iadd, 1) := dk_96 (dk_at dksL_law_47 7 rfl rfl)
theorem dL_law_1246 : decode cL_law 1246 = .ok (.iaload, 1) := dk_46 (dk_at dksL_law_47 8 rfl rfl)
theorem dL_law_1247 : decode cL_law 1247 = .ok (.invokevirtual 148, 3) := dk_182 0 148 (dk_at dksL_law_47 9 rfl rfl)
theorem dL_law_1250 : decode cL_law 1250 = .ok (.aload_n 2, 1) := dk_44 (dk_at dksL_law_47 12 rfl rfl)
theorem dL_law_1251 : decode cL_law 1251 = .ok (.aload_n 0, 1) := dk_42 (dk_at dksL_law_47 13 rfl rfl)
theorem dL_law_1252 : decode cL_law 1252 = .ok (.iload 4, 2) := dk_21 4 (dk_at dksL_law_47 14 rfl rfl)
theorem dL_law_1254 : decode cL_law 1254 = .ok (.iconst 1, 1) := dk_4 (dk_at dksL_law_47 16 rfl rfl)
theorem dL_law_1255 : decode cL_law 1255 = .ok (.iadd, 1) := dk_96 (dk_at dksL_law_47 17 rfl rfl)
theorem dL_law_1256 : decode cL_law 1256 = .ok (.iaload, 1) := dk_46 (dk_at dksL_law_47 18 rfl rfl)
theorem dL_law_1257 : decode cL_law 1257 = .ok (.invokevirtual 151, 3) := dk_182 0 151 (dk_at dksL_law_47 19 rfl rfl)
theorem dL_law_1260 : decode cL_law 1260 = .ok (.if_icmp .eq 209, 3) := dk_159 0 209 (dk_at dksL_law_48 0 rfl rfl)
theorem dL_law_1263 : decode cL_law 1263 = .ok (.iconst 0, 1) := dk_3 (dk_at dksL_law_48 3 rfl rfl)
theorem dL_law_1264 : decode cL_law 1264 = .ok (.ireturn, 1) := dk_172 (dk_at dksL_law_48 4 rfl rfl)
theorem dL_law_1265 : decode cL_law 1265 = .ok (.aload_n 1, 1) := dk_43 (dk_at dksL_law_48 5 rfl rfl)
theorem dL_law_1266 : decode cL_law 1266 = .ok (.aload_n 0, 1) := dk_42 (dk_at dksL_law_48 6 rfl rfl)
theorem dL_law_1267 : decode cL_law 1267 = .ok (.iload 4, 2) := dk_21 4 (dk_at dksL_law_48 7 rfl rfl)
theorem dL_law_1269 : decode cL_law 1269 = .ok (.iconst 1, 1) := dk_4 (dk_at dksL_law_48 9 rfl rfl)
theorem dL_law_1270 : decode cL_law 1270 = .ok (.iadd, 1) := dk_96 (dk_at dksL_law_48 10 rfl rfl)
theorem dL_law_1271 : decode cL_law 1271 = .ok (.iaload, 1) := dk_46 (dk_at dksL_law_48 11 rfl rfl)
theorem dL_law_1272 : decode cL_law 1272 = .ok (.aload_n 0, 1) := dk_42 (dk_at dksL_law_48 12 rfl rfl)
theorem dL_law_1273 : decode cL_law 1273 = .ok (.iload 4, 2) := dk_21 4 (dk_at dksL_law_48 13 rfl rfl)
theorem dL_law_1275 : decode cL_law 1275 = .ok (.iconst 2, 1) := dk_5 (dk_at dksL_law_48 15 rfl rfl)
theorem dL_law_1276 : decode cL_law 1276 = .ok (.iadd, 1) := dk_96 (dk_at dksL_law_48 16 rfl rfl)
theorem dL_law_1277 : decode cL_law 1277 = .ok (.iaload, 1) := dk_46 (dk_at dksL_law_48 17 rfl rfl)
theorem dL_law_1278 : decode cL_law 1278 = .ok (.invokevirtual 152, 3) := dk_182 0 152 (dk_at dksL_law_48 18 rfl rfl)
theorem dL_law_1281 : decode cL_law 1281 = .ok (.aload_n 2, 1) := dk_44 (dk_at dksL_law_48 21 rfl rfl)
theorem dL_law_1282 : decode cL_law 1282 = .ok (.aload_n 0, 1) := dk_42 (dk_at dksL_law_48 22 rfl rfl)
theorem dL_law_1283 : decode cL_law 1283 = .ok (.iload 4, 2) := dk_21 4 (dk_at dksL_law_49 0 rfl rfl)
theorem dL_law_1285 : decode cL_law 1285 = .ok (.iconst 1, 1) := dk_4 (dk_at dksL_law_49 2 rfl rfl)
theorem dL_law_1286 : decode cL_law 1286 = .ok (.iadd, 1) := dk_96 (dk_at dksL_law_49 3 rfl rfl)
theorem dL_law_1287 : decode cL_law 1287 = .ok (.iaload, 1) := dk_46 (dk_at dksL_law_49 4 rfl rfl)
theorem dL_law_1288 : decode cL_law 1288 = .ok (.aload_n 0, 1) := dk_42 (dk_at dksL_law_49 5 rfl rfl)
theorem dL_law_1289 : decode cL_law 1289 = .ok (.iload 4, 2) := dk_21 4 (dk_at dksL_law_49 6 rfl rfl)
theorem dL_law_1291 : decode cL_law 1291 = .ok (.iconst 2, 1) := dk_5 (dk_at dksL_law_49 8 rfl rfl)
theorem dL_law_1292 : decode cL_law 1292 = .ok (.iadd, 1) := dk_96 (dk_at dksL_law_49 9 rfl rfl)
theorem dL_law_1293 : decode cL_law 1293 = .ok (.iaload, 1) := dk_46 (dk_at dksL_law_49 10 rfl rfl)
theorem dL_law_1294 : decode cL_law 1294 = .ok (.invokevirtual 155, 3) := dk_182 0 155 (dk_at dksL_law_49 11 rfl rfl)
theorem dL_law_1297 : decode cL_law 1297 = .ok (.if_icmp .eq 172, 3) := dk_159 0 172 (dk_at dksL_law_49 14 rfl rfl)
theorem dL_law_1300 : decode cL_law 1300 = .ok (.iconst 0, 1) := dk_3 (dk_at dksL_law_49 17 rfl rfl)
theorem dL_law_1301 : decode cL_law 1301 = .ok (.ireturn, 1) := dk_172 (dk_at dksL_law_49 18 rfl rfl)
theorem dL_law_1302 : decode cL_law 1302 = .ok (.aload_n 1, 1) := dk_43 (dk_at dksL_law_49 19 rfl rfl)
theorem dL_law_1303 : decode cL_law 1303 = .ok (.invokevirtual 156, 3) := dk_182 0 156 (dk_at dksL_law_49 20 rfl rfl)
theorem dL_law_1306 : decode cL_law 1306 = .ok (.aload_n 2, 1) := dk_44 (dk_at dksL_law_49 23 rfl rfl)
theorem dL_law_1307 : decode cL_law 1307 = .ok (.invokevirtual 159, 3) := dk_182 0 159 (dk_at dksL_law_50 0 rfl rfl)
theorem dL_law_1310 : decode cL_law 1310 = .ok (.if_icmp .eq 159, 3) := dk_159 0 159 (dk_at dksL_law_50 3 rfl rfl)
theorem dL_law_1313 : decode cL_law 1313 = .ok (.iconst 0, 1) := dk_3 (dk_at dksL_law_50 6 rfl rfl)
theorem dL_law_1314 : decode cL_law 1314 = .ok (.ireturn, 1) := dk_172 (dk_at dksL_law_50 7 rfl rfl)
theorem dL_law_1315 : decode cL_law 1315 = .ok (.aload_n 1, 1) := dk_43 (dk_at dksL_law_50 8 rfl rfl)
theorem dL_law_1316 : decode cL_law 1316 = .ok (.aload_n 0, 1) := dk_42 (dk_at dksL_law_50 9 rfl rfl)
theorem dL_law_1317 : decode cL_law 1317 = .ok (.iload 4, 2) := dk_21 4 (dk_at dksL_law_50 10 rfl rfl)
theorem dL_law_1319 : decode cL_law 1319 = .ok (.iconst 1, 1) := dk_4 (dk_at dksL_law_50 12 rfl rfl)
theorem dL_law_1320 : decode cL_law 1320 = .ok (.iadd, 1) := dk_96 (dk_at dksL_law_50 13 rfl rfl)
theorem dL_law_1321 : decode cL_law 1321 = .ok (.iaload, 1) := dk_46 (dk_at dksL_law_50 14 rfl rfl)
theorem dL_law_1322 : decode cL_law 1322 = .ok (.aload_n 0, 1) := dk_42 (dk_at dksL_law_50 15 rfl rfl)
theorem dL_law_1323 : decode cL_law 1323 = .ok (.iload 4, 2) := dk_21 4 (dk_at dksL_law_50 16 rfl rfl)
theorem dL_law_1325 : decode cL_law 1325 = .ok (.iconst 2, 1) := dk_5 (dk_at dksL_law_50 18 rfl rfl)
theorem dL_law_1326 : decode cL_law 1326 = .ok (.iadd, 1) := dk_96 (dk_at dksL_law_50 19 rfl rfl)
theorem dL_law_1327 : decode cL_law 1327 = .ok (.iaload, 1) := dk_46 (dk_at dksL_law_50 20 rfl rfl)
theorem dL_law_1328 : decode cL_law 1328 = .ok (.invokevirtual 160, 3) := dk_182 0 160 (dk_at dksL_law_50 21 rfl rfl)
theorem dL_law_1331 : decode cL_law 1331 = .ok (.aload_n 2, 1) := dk_44 (dk_at dksL_law_51 0 rfl rfl)
theorem dL_law_1332 : decode cL_law 1332 = .ok (.aload_n 0, 1) := dk_42 (dk_at dksL_law_51 1 rfl rfl)
theorem dL_law_1333 : decode cL_law 1333 = .ok (.iload 4, 2) := dk_21 4 (dk_at dksL_law_51 2 rfl rfl)
theorem dL_law_1335 : decode cL_law 1335 = .ok (.iconst 1, 1) := dk_4 (dk_at dksL_law_51 4 rfl rfl)
theorem dL_law_1336 : decode cL_law 1336 = .ok (.iadd, 1) := dk_96 (dk_at dksL_law_51 5 rfl rfl)
theorem dL_law_1337 : decode cL_law 1337 = .ok (.iaload, 1) := dk_46 (dk_at dksL_law_51 6 rfl rfl)
theorem dL_law_1338 : decode cL_law 1338 = .ok (.aload_n 0, 1) := dk_42 (dk_at dksL_law_51 7 rfl rfl)
theorem dL_law_1339 : decode cL_law 1339 = .ok (.iload 4, 2) := dk_21 4 (dk_at dksL_law_51 8 rfl rfl)
theorem dL_law_1341 : decode cL_law 1341 = .ok (.iconst 2, 1) := dk_5 (dk_at dksL_law_51 10 rfl rfl)
theorem dL_law_1342 : decode cL_law 1342 = .ok (.iadd, 1) := dk_96 (dk_at dksL_law_51 11 rfl rfl)
theorem dL_law_1343 : decode cL_law 1343 = .ok (.iaload, 1) := dk_46 (dk_at dksL_law_51 12 rfl rfl)
theorem dL_law_1344 : decode cL_law 1344 = .ok (.invokevirtual 163, 3) := dk_182 0 163 (dk_at dksL_law_51 13 rfl rfl)
theorem dL_law_1347 : decode cL_law 1347 = .ok (.if_icmp .eq 122, 3) := dk_159 0 122 (dk_at dksL_law_51 16 rfl rfl)
theorem dL_law_1350 : decode cL_law 1350 = .ok (.iconst 0, 1) := dk_3 (dk_at dksL_law_51 19 rfl rfl)
theorem dL_law_1351 : decode cL_law 1351 = .ok (.ireturn, 1) := dk_172 (dk_at dksL_law_51 20 rfl rfl)
theorem dL_law_1352 : decode cL_law 1352 = .ok (.aload_n 1, 1) := dk_43 (dk_at dksL_law_51 21 rfl rfl)
theorem dL_law_1353 : decode cL_law 1353 = .ok (.aload_n 0, 1) := dk_42 (dk_at dksL_law_51 22 rfl rfl)
theorem dL_law_1354 : decode cL_law 1354 = .ok (.iload 4, 2) := dk_21 4 (dk_at dksL_law_52 0 rfl rfl)
theorem dL_law_1356 : decode cL_law 1356 = .ok (.iconst 1, 1) := dk_4 (dk_at dksL_law_52 2 rfl rfl)
theorem dL_law_1357 : decode cL_law 1357 = .ok (.iadd, 1) := dk_96 (dk_at dksL_law_52 3 rfl rfl)
theorem dL_law_1358 : decode cL_law 1358 = .ok (.iaload, 1) := dk_46 (dk_at dksL_law_52 4 rfl rfl)
theorem dL_law_1359 : decode cL_law 1359 = .ok (.aload_n 0, 1) := dk_42 (dk_at dksL_law_52 5 rfl rfl)
theorem dL_law_1360 : decode cL_law 1360 = .ok (.iload 4, 2) := dk_21 4 (dk_at dksL_law_52 6 rfl rfl)
theorem dL_law_1362 : decode cL_law 1362 = .ok (.iconst 2, 1) := dk_5 (dk_at dksL_law_52 8 rfl rfl)
theorem dL_law_1363 : decode cL_law 1363 = .ok (.iadd, 1) := dk_96 (dk_at dksL_law_52 9 rfl rfl)
theorem dL_law_1364 : decode cL_law 1364 = .ok (.iaload, 1) := dk_46 (dk_at dksL_law_52 10 rfl rfl)
theorem dL_law_1365 : decode cL_law 1365 = .ok (.invokevirtual 164, 3) := dk_182 0 164 (dk_at dksL_law_52 11 rfl rfl)
theorem dL_law_1368 : decode cL_law 1368 = .ok (.aload_n 2, 1) := dk_44 (dk_at dksL_law_52 14 rfl rfl)
theorem dL_law_1369 : decode cL_law 1369 = .ok (.aload_n 0, 1) := dk_42 (dk_at dksL_law_52 15 rfl rfl)
theorem dL_law_1370 : decode cL_law 1370 = .ok (.iload 4, 2) := dk_21 4 (dk_at dksL_law_52 16 rfl rfl)
theorem dL_law_1372 : decode cL_law 1372 = .ok (.iconst 1, 1) := dk_4 (dk_at dksL_law_52 18 rfl rfl)
theorem dL_law_1373 : decode cL_law 1373 = .ok (.iadd, 1) := dk_96 (dk_at dksL_law_52 19 rfl rfl)
theorem dL_law_1374 : decode cL_law 1374 = .ok (.iaload, 1) := dk_46 (dk_at dksL_law_52 20 rfl rfl)
theorem dL_law_1375 : decode cL_law 1375 = .ok (.aload_n 0, 1) := dk_42 (dk_at dksL_law_52 21 rfl rfl)
theorem dL_law_1376 : decode cL_law 1376 = .ok (.iload 4, 2) := dk_21 4 (dk_at dksL_law_52 22 rfl rfl)
theorem dL_law_1378 : decode cL_law 1378 = .ok (.iconst 2, 1) := dk_5 (dk_at dksL_law_53 0 rfl rfl)
theorem dL_law_1379 : decode cL_law 1379 = .ok (.iadd, 1) := dk_96 (dk_at dksL_law_53 1 rfl rfl)
theorem dL_law_1380 : decode cL_law 1380 = .ok (.iaload, 1) := dk_46 (dk_at dksL_law_53 2 rfl rfl)
theorem dL_law_1381 : decode cL_law 1381 = .ok (.invokevirtual 167, 3) := dk_182 0 167 (dk_at dksL_law_53 3 rfl rfl)
theorem dL_law_1384 : decode cL_law 1384 = .ok (.if_icmp .eq 85, 3) := dk_159 0 85 (dk_at dksL_law_53 6 rfl rfl)
theorem dL_law_1387 : decode cL_law 1387 = .ok (.iconst 0, 1) := dk_3 (dk_at dksL_law_53 9 rfl rfl)
theorem dL_law_1388 : decode cL_law 1388 = .ok (.ireturn, 1) := dk_172 (dk_at dksL_law_53 10 rfl rfl)
theorem dL_law_1389 : decode cL_law 1389 = .ok (.aload_n 1, 1) := dk_43 (dk_at dksL_law_53 11 rfl rfl)
theorem dL_law_1390 : decode cL_law 1390 = .ok (.aload_n 0, 1) := dk_42 (dk_at dksL_law_53 12 rfl rfl)
theorem dL_law_1391 : decode cL_law 1391 = .ok (.iload 4, 2) := dk_21 4 (dk_at dksL_law_53 13 rfl rfl)
theorem dL_law_1393 : decode cL_law 1393 = .ok (.iconst 1, 1) := dk_4 (dk_at dksL_law_53 15 rfl rfl)
theorem dL_law_1394 : decode cL_law 1394 = .ok (.iadd, 1) := dk_96 (dk_at dksL_law_53 16 rfl rfl)
theorem dL_law_1395 : decode cL_law 1395 = .ok (.iaload, 1) := dk_46 (dk_at dksL_law_53 17 rfl rfl)
theorem dL_law_1396 : decode cL_law 1396 = .ok (.invokevirtual 168, 3) := dk_182 0 168 (dk_at dksL_law_53 18 rfl rfl)
theorem dL_law_1399 : decode cL_law 1399 = .ok (.aload_n 2, 1) := dk_44 (dk_at dksL_law_53 21 rfl rfl)
theorem dL_law_1400 : decode cL_law 1400 = .ok (.aload_n 0, 1) := dk_42 (dk_at dksL_law_53 22 rfl rfl)
theorem dL_law_1401 : decode cL_law 1401 = .ok (.iload 4, 2) := dk_21 4 (dk_at dksL_law_54 0 rfl rfl)
theorem dL_law_1403 : decode cL_law 1403 = .ok (.iconst 1, 1) := dk_4 (dk_at dksL_law_54 2 rfl rfl)
theorem dL_law_1404 : decode cL_law 1404 = .ok (.iadd, 1) := dk_96 (dk_at dksL_law_54 3 rfl rfl)
theorem dL_law_1405 : decode cL_law 1405 = .ok (.iaload, 1) := dk_46 (dk_at dksL_law_54 4 rfl rfl)
theorem dL_law_1406 : decode cL_law 1406 = .ok (.invokevirtual 171, 3) := dk_182 0 171 (dk_at dksL_law_54 5 rfl rfl)
theorem dL_law_1409 : decode cL_law 1409 = .ok (.if_icmp .eq 60, 3) := dk_159 0 60 (dk_at dksL_law_54 8 rfl rfl)
theorem dL_law_1412 : decode cL_law 1412 = .ok (.iconst 0, 1) := dk_3 (dk_at dksL_law_54 11 rfl rfl)
theorem dL_law_1413 : decode cL_law 1413 = .ok (.ireturn, 1) := dk_172 (dk_at dksL_law_54 12 rfl rfl)
theorem dL_law_1414 : decode cL_law 1414 = .ok (.aload_n 1, 1) := dk_43 (dk_at dksL_law_54 13 rfl rfl)
theorem dL_law_1415 : decode cL_law 1415 = .ok (.aload_n 0, 1) := dk_42 (dk_at dksL_law_54 14 rfl rfl)
theorem dL_law_1416 : decode cL_law 1416 = .ok (.iload 4, 2) := dk_21 4 (dk_at dksL_law_54 15 rfl rfl)
theorem dL_law_1418 : decode cL_law 1418 = .ok (.iconst 1, 1) := dk_4 (dk_at dksL_law_54 17 rfl rfl)
theorem dL_law_1419 : decode cL_law 1419 = .ok (.iadd, 1) := dk_96 (dk_at dksL_law_54 18 rfl rfl)
theorem dL_law_1420 : decode cL_law 1420 = .ok (.iaload, 1) := dk_46 (dk_at dksL_law_54 19 rfl rfl)
theorem dL_law_1421 : decode cL_law 1421 = .ok (.aload_n 3, 1) := dk_45 (dk_at dksL_law_54 20 rfl rfl)
theorem dL_law_1422 : decode cL_law 1422 = .ok (.invokestatic 172, 3) := dk_184 0 172 (dk_at dksL_law_54 21 rfl rfl)
theorem dL_law_1425 : decode cL_law 1425 = .ok (.istore 5, 2) := dk_54 5 (dk_at dksL_law_55 0 rfl rfl)
theorem dL_law_1427 : decode cL_law 1427 = .ok (.aload_n 2, 1) := dk_44 (dk_at dksL_law_55 2 rfl rfl)
theorem dL_law_1428 : decode cL_law 1428 = .ok (.aload_n 0, 1) := dk_42 (dk_at dksL_law_55 3 rfl rfl)
theorem dL_law_1429 : decode cL_law 1429 = .ok (.iload 4, 2) := dk_21 4 (dk_at dksL_law_55 4 rfl rfl)
theorem dL_law_1431 : decode cL_law 1431 = .ok (.iconst 1, 1) := dk_4 (dk_at dksL_law_55 6 rfl rfl)
theorem dL_law_1432 : decode cL_law 1432 = .ok (.iadd, 1) := dk_96 (dk_at dksL_law_55 7 rfl rfl)
theorem dL_law_1433 : decode cL_law 1433 = .ok (.iaload, 1) := dk_46 (dk_at dksL_law_55 8 rfl rfl)
theorem dL_law_1434 : decode cL_law 1434 = .ok (.invokevirtual 175, 3) := dk_182 0 175 (dk_at dksL_law_55 9 rfl rfl)
theorem dL_law_1437 : decode cL_law 1437 = .ok (.lstore 6, 2) := dk_55 6 (dk_at dksL_law_55 12 rfl rfl)
theorem dL_law_1439 : decode cL_law 1439 = .ok (.aload_n 2, 1) := dk_44 (dk_at dksL_law_55 14 rfl rfl)
theorem dL_law_1440 : decode cL_law 1440 = .ok (.invokevirtual 117, 3) := dk_182 0 117 (dk_at dksL_law_55 15 rfl rfl)
theorem dL_law_1443 : decode cL_law 1443 = .ok (.iload 5, 2) := dk_21 5 (dk_at dksL_law_55 18 rfl rfl)
theorem dL_law_1445 : decode cL_law 1445 = .ok (.if_icmp .eq 5, 3) := dk_159 0 5 (dk_at dksL_law_55 20 rfl rfl)
theorem dL_law_1448 : decode cL_law 1448 = .ok (.iconst 0, 1) := dk_3 (dk_at dksL_law_55 23 rfl rfl)
theorem dL_law_1449 : decode cL_law 1449 = .ok (.ireturn, 1) := dk_172 (dk_at dksL_law_56 0 rfl rfl)
theorem dL_law_1450 : decode cL_law 1450 = .ok (.iload 5, 2) := dk_21 5 (dk_at dksL_law_56 1 rfl rfl)
theorem dL_law_1452 : decode cL_law 1452 = .ok (.ifCond .ne 14, 3) := dk_154 0 14 (dk_at dksL_law_56 3 rfl rfl)
theorem dL_law_1455 : decode cL_law 1455 = .ok (.aload_n 3, 1) := dk_45 (dk_at dksL_law_56 6 rfl rfl)
theorem dL_law_1456 : decode cL_law 1456 = .ok (.iconst 0, 1) := dk_3 (dk_at dksL_law_56 7 rfl rfl)
theorem dL_law_1457 : decode cL_law 1457 = .ok (.laload, 1) := dk_47 (dk_at dksL_law_56 8 rfl rfl)
theorem dL_law_1458 : decode cL_law 1458 = .ok (.lload 6, 2) := dk_22 6 (dk_at dksL_law_56 9 rfl rfl)
theorem dL_law_1460 : decode cL_law 1460 = .ok (.lcmp, 1) := dk_148 (dk_at dksL_law_56 11 rfl rfl)
theorem dL_law_1461 : decode cL_law 1461 = .ok (.ifCond .eq 5, 3) := dk_153 0 5 (dk_at dksL_law_56 12 rfl rfl)
theorem dL_law_1464 : decode cL_law 1464 = .ok (.iconst 0, 1) := dk_3 (dk_at dksL_law_56 15 rfl rfl)
theorem dL_law_1465 : decode cL_law 1465 = .ok (.ireturn, 1) := dk_172 (dk_at dksL_law_56 16 rfl rfl)
theorem dL_law_1466 : decode cL_law 1466 = .ok (.goto 3, 3) := dk_167 0 3 (dk_at dksL_law_56 17 rfl rfl)
theorem dL_law_1469 : decode cL_law 1469 = .ok (.iinc 4 4, 3) := dk_132 4 4 (dk_at dksL_law_56 20 rfl rfl)
theorem dL_law_1472 : decode cL_law 1472 = .ok (.goto (-1449), 3) := dk_167 250 87 (dk_at dksL_law_57 0 rfl rfl)
theorem dL_law_1475 : decode cL_law 1475 = .ok (.iconst 1, 1) := dk_4 (dk_at dksL_law_57 3 rfl rfl)
theorem dL_law_1476 : decode cL_law 1476 = .ok (.ireturn, 1) := dk_172 (dk_at dksL_law_57 4 rfl rfl)
