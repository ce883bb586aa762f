set_option maxRecDepth 100000
theorem dX4_thrown_0 : decode cX4_thrown 0 = .ok (.aload_n 0, 1) := by decide +kernel
theorem dX4_thrown_1 : decode cX4_thrown 1 = .ok (.getfield 1, 3) := by decide +kernel
theorem dX4_thrown_4 : decode cX4_thrown 4 = .ok (.ireturn, 1) := by decide +kernel
def dkwX4_sign_2 : List UInt8 := [132, 2, 1, 167, 255, 224, 42, 89, 180, 0, 14, 7, 96, 181, 0, 14, 42, 180, 0, 14, 172]
abbrev dktX4_sign_2 : List UInt8 := dkwX4_sign_2 ++ []
def dkwX4_sign_1 : List UInt8 := [180, 0, 17, 42, 180, 0, 14, 28, 96, 27, 16, 24, 16, 8, 28, 104, 100, 122, 17, 0, 255, 126, 79]
abbrev dktX4_sign_1 : List UInt8 := dkwX4_sign_1 ++ dktX4_sign_2
def dkwX4_sign_0 : List UInt8 := [42, 3, 181, 0, 1, 42, 180, 0, 14, 16, 96, 164, 0, 5, 2, 172, 3, 61, 28, 7, 162, 0, 33, 42]
abbrev dktX4_sign_0 : List UInt8 := dkwX4_sign_0 ++ dktX4_sign_1
theorem dksX4_sign_0 : cX4_sign.data.toList.drop 0 = dktX4_sign_0 := by decide +kernel
theorem dksX4_sign_1 : cX4_sign.data.toList.drop 24 = dktX4_sign_1 := dk_seg dksX4_sign_0 24 rfl rfl
theorem dksX4_sign_2 : cX4_sign.data.toList.drop 47 = dktX4_sign_2 := dk_seg dksX4_sign_1 23 rfl rfl
theorem dX4_sign_0 : decode cX4_sign 0 = .ok (.aload_n 0, 1) := dk_42 (dk_at dksX4_sign_0 0 rfl rfl)
theorem dX4_sign_1 : decode cX4_sign 1 = .ok (.iconst 0, 1) := dk_3 (dk_at dksX4_sign_0 1 rfl rfl)
theorem dX4_sign_2 : decode cX4_sign 2 = .ok (.putfield 1, 3) := dk_181 0 1 (dk_at dksX4_sign_0 2 rfl rfl)
theorem dX4_sign_5 : decode cX4_sign 5 = .ok (.aload_n 0, 1) := dk_42 (dk_at dksX4_sign_0 5 rfl rfl)
theorem dX4_sign_6 : decode cX4_sign 6 = .ok (.getfield 14, 3) := dk_180 0 14 (dk_at dksX4_sign_0 6 rfl rfl)
theorem dX4_sign_9 : decode cX4_sign 9 = .ok (.bipush 96, 2) := dk_16 96 (dk_at dksX4_sign_0 9 rfl rfl)
theorem dX4_sign_11 : decode cX4_sign 11 = .ok (.if_icmp .le 5, 3) := dk_164 0 5 (dk_at dksX4_sign_0 11 rfl rfl)
theorem dX4_sign_14 : decode cX4_sign 14 = .ok (.iconst (-1), 1) := dk_2 (dk_at dksX4_sign_0 14 rfl rfl)
theorem dX4_sign_15 : decode cX4_sign 15 = .ok (.ireturn, 1) := dk_172 (dk_at dksX4_sign_0 15 rfl rfl)
theorem dX4_sign_16 : decode cX4_sign 16 = .ok (.iconst 0, 1) := dk_3 (dk_at dksX4_sign_0 16 rfl rfl)
theorem dX4_sign_17 : decode cX4_sign 17 = .ok (.istore_n 2, 1) := dk_61 (dk_at dksX4_sign_0 17 rfl rfl)
theorem dX4_sign_18 : decode cX4_sign 18 = .ok (.iload_n 2, 1) := dk_28 (dk_at dksX4_sign_0 18 rfl rfl)
theorem dX4_sign_19 : decode cX4_sign 19 = .ok (.iconst 4, 1) := dk_7 (dk_at dksX4_sign_0 19 rfl rfl)
theorem dX4_sign_20 : decode cX4_sign 20 = .ok (.if_icmp .ge 33, 3) := dk_162 0 33 (dk_at dksX4_sign_0 20 rfl rfl)
theorem dX4_sign_23 : decode cX4_sign 23 = .ok (.aload_n 0, 1) := dk_42 (dk_at dksX4_sign_0 23 rfl rfl)
theorem dX4_sign_24 : decode cX4_sign 24 = .ok (.getfield 17, 3) := dk_180 0 17 (dk_at dksX4_sign_1 0 rfl rfl)
theorem dX4_sign_27 : decode cX4_sign 27 = .ok (.aload_n 0, 1) := dk_42 (dk_at dksX4_sign_1 3 rfl rfl)
theorem dX4_sign_28 : decode cX4_sign 28 = .ok (.getfield 14, 3) := dk_180 0 14 (dk_at dksX4_sign_1 4 rfl rfl)
theorem dX4_sign_31 : decode cX4_sign 31 = .ok (.iload_n 2, 1) := dk_28 (dk_at dksX4_sign_1 7 rfl rfl)
theorem dX4_sign_32 : decode cX4_sign 32 = .ok (.iadd, 1) := dk_96 (dk_at dksX4_sign_1 8 rfl rfl)
theorem dX4_sign_33 : decode cX4_sign 33 = .ok (.iload_n 1, 1) := dk_27 (dk_at dksX4_sign_1 9 rfl rfl)
theorem dX4_sign_34 : decode cX4_sign 34 = .ok (.bipush 24, 2) := dk_16 24 (dk_at dksX4_sign_1 10 rfl rfl)
theorem dX4_sign_36 : decode cX4_sign 36 = .ok (.bipush 8, 2) := dk_16 8 (dk_at dksX4_sign_1 12 rfl rfl)
theorem dX4_sign_38 : decode cX4_sign 38 = .ok (.iload_n 2, 1) := dk_28 (dk_at dksX4_sign_1 14 rfl rfl)
theorem dX4_sign_39 : decode cX4_sign 39 = .ok (.imul, 1) := dk_104 (dk_at dksX4_sign_1 15 rfl rfl)
theorem dX4_sign_40 : decode cX4_sign 40 = .ok (.isub, 1) := dk_100 (dk_at dksX4_sign_1 16 rfl rfl)
theorem dX4_sign_41 : decode cX4_sign 41 = .ok (.ishr, 1) := dk_122 (dk_at dksX4_sign_1 17 rfl rfl)
theorem dX4_sign_42 : decode cX4_sign 42 = .ok (.sipush 255, 3) := dk_17 0 255 (dk_at dksX4_sign_1 18 rfl rfl)
theorem dX4_sign_45 : decode cX4_sign 45 = .ok (.iand, 1) := dk_126 (dk_at dksX4_sign_1 21 rfl rfl)
theorem dX4_sign_46 : decode cX4_sign 46 = .ok (.iastore, 1) := dk_79 (dk_at dksX4_sign_1 22 rfl rfl)
theorem dX4_sign_47 : decode cX4_sign 47 = .ok (.iinc 2 1, 3) := dk_132 2 1 (dk_at dksX4_sign_2 0 rfl rfl)
theorem dX4_sign_50 : decode cX4_sign 50 = .ok (.goto (-32), 3) := dk_167 255 224 (dk_at dksX4_sign_2 3 rfl rfl)
theorem dX4_sign_53 : decode cX4_sign 53 = .ok (.aload_n 0, 1) := dk_42 (dk_at dksX4_sign_2 6 rfl rfl)
theorem dX4_sign_54 : decode cX4_sign 54 = .ok (.dup, 1) := dk_89 (dk_at dksX4_sign_2 7 rfl rfl)
theorem dX4_sign_55 : decode cX4_sign 55 = .ok (.getfield 14, 3) := dk_180 0 14 (dk_at dksX4_sign_2 8 rfl rfl)
theorem dX4_sign_58 : decode cX4_sign 58 = .ok (.iconst 4, 1) := dk_7 (dk_at dksX4_sign_2 11 rfl rfl)
theorem dX4_sign_59 : decode cX4_sign 59 = .ok (.iadd, 1) := dk_96 (dk_at dksX4_sign_2 12 rfl rfl)
theorem dX4_sign_60 : decode cX4_sign 60 = .ok (.putfield 14, 3) := dk_181 0 14 (dk_at dksX4_sign_2 13 rfl rfl)
theorem dX4_sign_63 : decode cX4_sign 63 = .ok (.aload_n 0, 1) := dk_42 (dk_at dksX4_sign_2 16 rfl rfl)
theorem dX4_sign_64 : decode cX4_sign 64 = .ok (.getfield 14, 3) := dk_180 0 14 (dk_at dksX4_sign_2 17 rfl rfl)
theorem dX4_sign_67 : decode cX4_sign 67 = .ok (.ireturn, 1) := dk_172 (dk_at dksX4_sign_2 20 rfl rfl)
def dkwX4_end_1 : List UInt8 := [181, 0, 14, 4, 172]
abbrev dktX4_end_1 : List UInt8 := dkwX4_end_1 ++ []
def dkwX4_end_0 : List UInt8 := [42, 3, 181, 0, 1, 27, 133, 9, 42, 180, 0, 14, 133, 184, 0, 21, 154, 0, 5, 3, 172, 42, 27]
abbrev dktX4_end_0 : List UInt8 := dkwX4_end_0 ++ dktX4_end_1
theorem dksX4_end_0 : cX4_end.data.toList.drop 0 = dktX4_end_0 := by decide +kernel
theorem dksX4_end_1 : cX4_end.data.toList.drop 23 = dktX4_end_1 := dk_seg dksX4_end_0 23 rfl rfl
theorem dX4_end_0 : decode cX4_end 0 = .ok (.aload_n 0, 1) := dk_42 (dk_at dksX4_end_0 0 rfl rfl)
theorem dX4_end_1 : decode cX4_end 1 = .ok (.iconst 0, 1) := dk_3 (dk_at dksX4_end_0 1 rfl rfl)
theorem dX4_end_2 : decode cX4_end 2 = .ok (.putfield 1, 3) := dk_181 0 1 (dk_at dksX4_end_0 2 rfl rfl)
theorem dX4_end_5 : decode cX4_end 5 = .ok (.iload_n 1, 1) := dk_27 (dk_at dksX4_end_0 5 rfl rfl)
theorem dX4_end_6 : decode cX4_end 6 = .ok (.i2l, 1) := dk_133 (dk_at dksX4_end_0 6 rfl rfl)
theorem dX4_end_7 : decode cX4_end 7 = .ok (.lconst 0, 1) := dk_9 (dk_at dksX4_end_0 7 rfl rfl)
theorem dX4_end_8 : decode cX4_end 8 = .ok (.aload_n 0, 1) := dk_42 (dk_at dksX4_end_0 8 rfl rfl)
theorem dX4_end_9 : decode cX4_end 9 = .ok (.getfield 14, 3) := dk_180 0 14 (dk_at dksX4_end_0 9 rfl rfl)
theorem dX4_end_12 : decode cX4_end 12 = .ok (.i2l, 1) := dk_133 (dk_at dksX4_end_0 12 rfl rfl)
theorem dX4_end_13 : decode cX4_end 13 = .ok (.invokestatic 21, 3) := dk_184 0 21 (dk_at dksX4_end_0 13 rfl rfl)
theorem dX4_end_16 : decode cX4_end 16 = .ok (.ifCond .ne 5, 3) := dk_154 0 5 (dk_at dksX4_end_0 16 rfl rfl)
theorem dX4_end_19 : decode cX4_end 19 = .ok (.iconst 0, 1) := dk_3 (dk_at dksX4_end_0 19 rfl rfl)
theorem dX4_end_20 : decode cX4_end 20 = .ok (.ireturn, 1) := dk_172 (dk_at dksX4_end_0 20 rfl rfl)
theorem dX4_end_21 : decode cX4_end 21 = .ok (.aload_n 0, 1) := dk_42 (dk_at dksX4_end_0 21 rfl rfl)
theorem dX4_end_22 : decode cX4_end 22 = .ok (.iload_n 1, 1) := dk_27 (dk_at dksX4_end_0 22 rfl rfl)
theorem dX4_end_23 : decode cX4_end 23 = .ok (.putfield 14, 3) := dk_181 0 14 (dk_at dksX4_end_1 0 rfl rfl)
theorem dX4_end_26 : decode cX4_end 26 = .ok (.iconst 1, 1) := dk_4 (dk_at dksX4_end_1 3 rfl rfl)
theorem dX4_end_27 : decode cX4_end 27 = .ok (.ireturn, 1) := dk_172 (dk_at dksX4_end_1 4 rfl rfl)
def dkwX4_in_0 : List UInt8 := [30, 32, 148, 155, 0, 14, 30, 22, 4, 148, 157, 0, 7, 4, 167, 0, 4, 3, 172]
abbrev dktX4_in_0 : List UInt8 := dkwX4_in_0 ++ []
theorem dksX4_in_0 : cX4_in.data.toList.drop 0 = dktX4_in_0 := by decide +kernel
theorem dX4_in_0 : decode cX4_in 0 = .ok (.lload_n 0, 1) := dk_30 (dk_at dksX4_in_0 0 rfl rfl)
theorem dX4_in_1 : decode cX4_in 1 = .ok (.lload_n 2, 1) := dk_32 (dk_at dksX4_in_0 1 rfl rfl)
theorem dX4_in_2 : decode cX4_in 2 = .ok (.lcmp, 1) := dk_148 (dk_at dksX4_in_0 2 rfl rfl)
theorem dX4_in_3 : decode cX4_in 3 = .ok (.ifCond .lt 14, 3) := dk_155 0 14 (dk_at dksX4_in_0 3 rfl rfl)
theorem dX4_in_6 : decode cX4_in 6 = .ok (.lload_n 0, 1) := dk_30 (dk_at dksX4_in_0 6 rfl rfl)
theorem dX4_in_7 : decode cX4_in 7 = .ok (.lload 4, 2) := dk_22 4 (dk_at dksX4_in_0 7 rfl rfl)
theorem dX4_in_9 : decode cX4_in 9 = .ok (.lcmp, 1) := dk_148 (dk_at dksX4_in_0 9 rfl rfl)
theorem dX4_in_10 : decode cX4_in 10 = .ok (.ifCond .gt 7, 3) := dk_157 0 7 (dk_at dksX4_in_0 10 rfl rfl)
theorem dX4_in_13 : decode cX4_in 13 = .ok (.iconst 1, 1) := dk_4 (dk_at dksX4_in_0 13 rfl rfl)
theorem dX4_in_14 : decode cX4_in 14 = .ok (.goto 4, 3) := dk_167 0 4 (dk_at dksX4_in_0 14 rfl rfl)
theorem dX4_in_17 : decode cX4_in 17 = .ok (.iconst 0, 1) := dk_3 (dk_at dksX4_in_0 17 rfl rfl)
theorem dX4_in_18 : decode cX4_in 18 = .ok (.ireturn, 1) := dk_172 (dk_at dksX4_in_0 18 rfl rfl)
def dkwX4_init_6 : List UInt8 := [181, 0, 87, 42, 16, 100, 188, 10, 181, 0, 90, 42, 3, 181, 0, 93, 177]
abbrev dktX4_init_6 : List UInt8 := dkwX4_init_6 ++ []
def dkwX4_init_5 : List UInt8 := [181, 0, 78, 42, 16, 65, 188, 10, 181, 0, 81, 42, 16, 25, 188, 10, 181, 0, 84, 42, 16, 100, 188, 10]
abbrev dktX4_init_5 : List UInt8 := dkwX4_init_5 ++ dktX4_init_6
def dkwX4_init_4 : List UInt8 := [17, 2, 128, 188, 10, 181, 0, 72, 42, 17, 2, 128, 188, 11, 181, 0, 75, 42, 17, 2, 128, 188, 11]
abbrev dktX4_init_4 : List UInt8 := dkwX4_init_4 ++ dktX4_init_5
def dkwX4_init_3 : List UInt8 := [188, 11, 181, 0, 63, 42, 16, 10, 188, 10, 181, 0, 66, 42, 17, 2, 128, 188, 10, 181, 0, 69, 42]
abbrev dktX4_init_3 : List UInt8 := dkwX4_init_3 ++ dktX4_init_4
def dkwX4_init_2 : List UInt8 := [181, 0, 54, 42, 7, 188, 10, 181, 0, 57, 42, 17, 0, 129, 188, 11, 181, 0, 60, 42, 17, 0, 129]
abbrev dktX4_init_2 : List UInt8 := dkwX4_init_2 ++ dktX4_init_3
def dkwX4_init_1 : List UInt8 := [181, 0, 45, 42, 16, 25, 188, 10, 181, 0, 48, 42, 7, 188, 10, 181, 0, 51, 42, 7, 188, 10]
abbrev dktX4_init_1 : List UInt8 := dkwX4_init_1 ++ dktX4_init_2
def dkwX4_init_0 : List UInt8 := [42, 183, 0, 39, 42, 17, 0, 160, 188, 11, 181, 0, 7, 42, 16, 100, 188, 10, 181, 0, 17, 42, 4]
abbrev dktX4_init_0 : List UInt8 := dkwX4_init_0 ++ dktX4_init_1
theorem dksX4_init_0 : cX4_init.data.toList.drop 0 = dktX4_init_0 := by decide +kernel
theorem dksX4_init_1 : cX4_init.data.toList.drop 23 = dktX4_init_1 := dk_seg dksX4_init_0 23 rfl rfl
theorem dksX4_init_2 : cX4_init.data.toList.drop 45 = dktX4_init_2 := dk_seg dksX4_init_1 22 rfl rfl
theorem dksX4_init_3 : cX4_init.data.toList.drop 68 = dktX4_init_3 := dk_seg dksX4_init_2 23 rfl rfl
theorem dksX4_init_4 : cX4_init.data.toList.drop 91 = dktX4_init_4 := dk_seg dksX4_init_3 23 rfl rfl
theorem dksX4_init_5 : cX4_init.data.toList.drop 114 = dktX4_init_5 := dk_seg dksX4_init_4 23 rfl rfl
theorem dksX4_init_6 : cX4_init.data.toList.drop 138 = dktX4_init_6 := dk_seg dksX4_init_5 24 rfl rfl
theorem dX4_init_0 : decode cX4_init 0 = .ok (.aload_n 0, 1) := dk_42 (dk_at dksX4_init_0 0 rfl rfl)
theorem dX4_init_1 : decode cX4_init 1 = .ok (.invokespecial 39, 3) := dk_183 0 39 (dk_at dksX4_init_0 1 rfl rfl)
theorem dX4_init_4 : decode cX4_init 4 = .ok (.aload_n 0, 1) := dk_42 (dk_at dksX4_init_0 4 rfl rfl)
theorem dX4_init_5 : decode cX4_init 5 = .ok (.sipush 160, 3) := dk_17 0 160 (dk_at dksX4_init_0 5 rfl rfl)
theorem dX4_init_8 : decode cX4_init 8 = .ok (.newarray .long, 2) := dk_188_11 (dk_at dksX4_init_0 8 rfl rfl)
theorem dX4_init_10 : decode cX4_init 10 = .ok (.putfield 7, 3) := dk_181 0 7 (dk_at dksX4_init_0 10 rfl rfl)
theorem dX4_init_13 : decode cX4_init 13 = .ok (.aload_n 0, 1) := dk_42 (dk_at dksX4_init_0 13 rfl rfl)
theorem dX4_init_14 : decode cX4_init 14 = .ok (.bipush 100, 2) := dk_16 100 (dk_at dksX4_init_0 14 rfl rfl)
theorem dX4_init_16 : decode cX4_init 16 = .ok (.newarray .int, 2) := dk_188_10 (dk_at dksX4_init_0 16 rfl rfl)
theorem dX4_init_18 : decode cX4_init 18 = .ok (.putfield 17, 3) := dk_181 0 17 (dk_at dksX4_init_0 18 rfl rfl)
theorem dX4_init_21 : decode cX4_init 21 = .ok (.aload_n 0, 1) := dk_42 (dk_at dksX4_init_0 21 rfl rfl)
theorem dX4_init_22 : decode cX4_init 22 = .ok (.iconst 1, 1) := dk_4 (dk_at dksX4_init_0 22 rfl rfl)
theorem dX4_init_23 : decode cX4_init 23 = .ok (.putfield 45, 3) := dk_181 0 45 (dk_at dksX4_init_1 0 rfl rfl)
theorem dX4_init_26 : decode cX4_init 26 = .ok (.aload_n 0, 1) := dk_42 (dk_at dksX4_init_1 3 rfl rfl)
theorem dX4_init_27 : decode cX4_init 27 = .ok (.bipush 25, 2) := dk_16 25 (dk_at dksX4_init_1 4 rfl rfl)
theorem dX4_init_29 : decode cX4_init 29 = .ok (.newarray .int, 2) := dk_188_10 (dk_at dksX4_init_1 6 rfl rfl)
theorem dX4_init_31 : decode cX4_init 31 = .ok (.putfield 48, 3) := dk_181 0 48 (dk_at dksX4_init_1 8 rfl rfl)
theorem dX4_init_34 : decode cX4_init 34 = .ok (.aload_n 0, 1) := dk_42 (dk_at dksX4_init_1 11 rfl rfl)
theorem dX4_init_35 : decode cX4_init 35 = .ok (.iconst 4, 1) := dk_7 (dk_at dksX4_init_1 12 rfl rfl)
theorem dX4_init_36 : decode cX4_init 36 = .ok (.newarray .int, 2) := dk_188_10 (dk_at dksX4_init_1 13 rfl rfl)
theorem dX4_init_38 : decode cX4_init 38 = .ok (.putfield 51, 3) := dk_181 0 51 (dk_at dksX4_init_1 15 rfl rfl)
theorem dX4_init_41 : decode cX4_init 41 = .ok (.aload_n 0, 1) := dk_42 (dk_at dksX4_init_1 18 rfl rfl)
theorem dX4_init_42 : decode cX4_init 42 = .ok (.iconst 4, 1) := dk_7 (dk_at dksX4_init_1 19 rfl rfl)
theorem dX4_init_43 : decode cX4_init 43 = .ok (.newarray .int, 2) := dk_188_10 (dk_at dksX4_init_1 20 rfl rfl)
theorem dX4_init_45 : decode cX4_init 45 = .ok (.putfield 54, 3) := dk_181 0 54 (dk_at dksX4_init_2 0 rfl rfl)
theorem dX4_init_48 : decode cX4_init 48 = .ok (.aload_n 0, 1) := dk_42 (dk_at dksX4_init_2 3 rfl rfl)
theorem dX4_init_49 : decode cX4_init 49 = .ok (.iconst 4, 1) := dk_7 (dk_at dksX4_init_2 4 rfl rfl)
theorem dX4_init_50 : decode cX4_init 50 = .ok (.newarray .int, 2) := dk_188_10 (dk_at dksX4_init_2 5 rfl rfl)
theorem dX4_init_52 : decode cX4_init 52 = .ok (.putfield 57, 3) := dk_181 0 57 (dk_at dksX4_init_2 7 rfl rfl)
theorem dX4_init_55 : decode cX4_init 55 = .ok (.aload_n 0, 1) := dk_42 (dk_at dksX4_init_2 10 rfl rfl)
theorem dX4_init_56 : decode cX4_init 56 = .ok (.sipush 129, 3) := dk_17 0 129 (dk_at dksX4_init_2 11 rfl rfl)
theorem dX4_init_59 : decode cX4_init 59 = .ok (.newarray .long, 2) := dk_188_11 (dk_at dksX4_init_2 14 rfl rfl)
theorem dX4_init_61 : decode cX4_init 61 = .ok (.putfield 60, 3) := dk_181 0 60 (dk_at dksX4_init_2 16 rfl rfl)
theorem dX4_init_64 : decode cX4_init 64 = .ok (.aload_n 0, 1) := dk_42 (dk_at dksX4_init_2 19 rfl rfl)
theorem dX4_init_65 : decode cX4_init 65 = .ok (.sipush 129, 3) := dk_17 0 129 (dk_at dksX4_init_2 20 rfl rfl)
theorem dX4_init_68 : decode cX4_init 68 = .ok (.newarray .long, 2) := dk_188_11 (dk_at dksX4_init_3 0 rfl rfl)
theorem dX4_init_70 : decode cX4_init 70 = .ok (.putfield 63, 3) := dk_181 0 63 (dk_at dksX4_init_3 2 rfl rfl)
theorem dX4_init_73 : decode cX4_init 73 = .ok (.aload_n 0, 1) := dk_42 (dk_at dksX4_init_3 5 rfl rfl)
theorem dX4_init_74 : decode cX4_init 74 = .ok (.bipush 10, 2) := dk_16 10 (dk_at dksX4_init_3 6 rfl rfl)
theorem dX4_init_76 : decode cX4_init 76 = .ok (.newarray .int, 2) := dk_188_10 (dk_at dksX4_init_3 8 rfl rfl)
theorem dX4_init_78 : decode cX4_init 78 = .ok (.putfield 66, 3) := dk_181 0 66 (dk_at dksX4_init_3 10 rfl rfl)
theorem dX4_init_81 : decode cX4_init 81 = .ok (.aload_n 0, 1) := dk_42 (dk_at dksX4_init_3 13 rfl rfl)
theorem dX4_init_82 : decode cX4_init 82 = .ok (.sipush 640, 3) := dk_17 2 128 (dk_at dksX4_init_3 14 rfl rfl)
theorem dX4_init_85 : decode cX4_init 85 = .ok (.newarray .int, 2) := dk_188_10 (dk_at dksX4_init_3 17 rfl rfl)
theorem dX4_init_87 : decode cX4_init 87 = .ok (.putfield 69, 3) := dk_181 0 69 (dk_at dksX4_init_3 19 rfl rfl)
theorem dX4_init_90 : decode cX4_init 90 = .ok (.aload_n 0, 1) := dk_42 (dk_at dksX4_init_3 22 rfl rfl)
theorem dX4_init_91 : decode cX4_init 91 = .ok (.sipush 640, 3) := dk_17 2 128 (dk_at dksX4_init_4 0 rfl rfl)
theorem dX4_init_94 : decode cX4_init 94 = .ok (.newarray .int, 2) := dk_188_10 (dk_at dksX4_init_4 3 rfl rfl)
theorem dX4_init_96 : decode cX4_init 96 = .ok (.putfield 72, 3) := dk_181 0 72 (dk_at dksX4_init_4 5 rfl rfl)
theorem dX4_init_99 : decode cX4_init 99 = .ok (.aload_n 0, 1) := dk_42 (dk_at dksX4_init_4 8 rfl rfl)
theorem dX4_init_100 : decode cX4_init 100 = .ok (.sipush 640, 3) := dk_17 2 128 (dk_at dksX4_init_4 9 rfl rfl)
theorem dX4_init_103 : decode cX4_init 103 = .ok (.newarray .long, 2) := dk_188_11 (dk_at dksX4_init_4 12 rfl rfl)
theorem dX4_init_105 : decode cX4_init 105 = .ok (.putfield 75, 3) := dk_181 0 75 (dk_at dksX4_init_4 14 rfl rfl)
theorem dX4_init_108 : decode cX4_init 108 = .ok (.aload_n 0, 1) := dk_42 (dk_at dksX4_init_4 17 rfl rfl)
theorem dX4_init_109 : decode cX4_init 109 = .ok (.sipush 640, 3) := dk_17 2 128 (dk_at dksX4_init_4 18 rfl rfl)
theorem dX4_init_112 : decode cX4_init 112 = .ok (.newarray .long, 2) := dk_188_11 (dk_at dksX4_init_4 21 rfl rfl)
theorem dX4_init_114 : decode cX4_init 114 = .ok (.putfield 78, 3) := dk_181 0 78 (dk_at dksX4_init_5 0 rfl rfl)
theorem dX4_init_117 : decode cX4_init 117 = .ok (.aload_n 0, 1) := dk_42 (dk_at dksX4_init_5 3 rfl rfl)
theorem dX4_init_118 : decode cX4_init 118 = .ok (.bipush 65, 2) := dk_16 65 (dk_at dksX4_init_5 4 rfl rfl)
theorem dX4_init_120 : decode cX4_init 120 = .ok (.newarray .int, 2) := dk_188_10 (dk_at dksX4_init_5 6 rfl rfl)
theorem dX4_init_122 : decode cX4_init 122 = .ok (.putfield 81, 3) := dk_181 0 81 (dk_at dksX4_init_5 8 rfl rfl)
theorem dX4_init_125 : decode cX4_init 125 = .ok (.aload_n 0, 1) := dk_42 (dk_at dksX4_init_5 11 rfl rfl)
theorem dX4_init_126 : decode cX4_init 126 = .ok (.bipush 25, 2) := dk_16 25 (dk_at dksX4_init_5 12 rfl rfl)
theorem dX4_init_128 : decode cX4_init 128 = .ok (.newarray .int, 2) := dk_188_10 (dk_at dksX4_init_5 14 rfl rfl)
theorem dX4_init_130 : decode cX4_init 130 = .ok (.putfield 84, 3) := dk_181 0 84 (dk_at dksX4_init_5 16 rfl rfl)
theorem dX4_init_133 : decode cX4_init 133 = .ok (.aload_n 0, 1) := dk_42 (dk_at dksX4_init_5 19 rfl rfl)
theorem dX4_init_134 : decode cX4_init 134 = .ok (.bipush 100, 2) := dk_16 100 (dk_at dksX4_init_5 20 rfl rfl)
theorem dX4_init_136 : decode cX4_init 136 = .ok (.newarray .int, 2) := dk_188_10 (dk_at dksX4_init_5 22 rfl rfl)
theorem dX4_init_138 : decode cX4_init 138 = .ok (.putfield 87, 3) := dk_181 0 87 (dk_at dksX4_init_6 0 rfl rfl)
theorem dX4_init_141 : decode cX4_init 141 = .ok (.aload_n 0, 1) := dk_42 (dk_at dksX4_init_6 3 rfl rfl)
theorem dX4_init_142 : decode cX4_init 142 = .ok (.bipush 100, 2) := dk_16 100 (dk_at dksX4_init_6 4 rfl rfl)
theorem dX4_init_144 : decode cX4_init 144 = .ok (.newarray .int, 2) := dk_188_10 (dk_at dksX4_init_6 6 rfl rfl)
theorem dX4_init_146 : decode cX4_init 146 = .ok (.putfield 90, 3) := dk_181 0 90 (dk_at dksX4_init_6 8 rfl rfl)
theorem dX4_init_149 : decode cX4_init 149 = .ok (.aload_n 0, 1) := dk_42 (dk_at dksX4_init_6 11 rfl rfl)
theorem dX4_init_150 : decode cX4_init 150 = .ok (.iconst 0, 1) := dk_3 (dk_at dksX4_init_6 12 rfl rfl)
theorem dX4_init_151 : decode cX4_init 151 = .ok (.putfield 93, 3) := dk_181 0 93 (dk_at dksX4_init_6 13 rfl rfl)
theorem dX4_init_154 : decode cX4_init 154 = .ok (.return_, 1) := dk_177 (dk_at dksX4_init_6 16 rfl rfl)
def dkwX4_commutes_4 : List UInt8 := [154, 0, 7, 4, 167, 0, 4, 3, 184, 0, 31, 172]
abbrev dktX4_commutes_4 : List UInt8 := dkwX4_commutes_4 ++ []
def dkwX4_commutes_3 : List UInt8 := [180, 0, 100, 182, 0, 164, 33, 42, 180, 0, 96, 148, 154, 0, 17, 22, 5, 42, 180, 0, 100, 148]
abbrev dktX4_commutes_3 : List UInt8 := dkwX4_commutes_3 ++ dktX4_commutes_4
def dkwX4_commutes_2 : List UInt8 := [181, 0, 11, 42, 33, 182, 0, 164, 42, 22, 5, 182, 0, 164, 42, 42, 180, 0, 96, 182, 0, 164, 42, 42]
abbrev dktX4_commutes_2 : List UInt8 := dkwX4_commutes_2 ++ dktX4_commutes_3
def dkwX4_commutes_1 : List UInt8 := [182, 0, 160, 42, 180, 0, 96, 66, 42, 180, 0, 100, 55, 5, 42, 28, 27, 182, 0, 160, 42, 3]
abbrev dktX4_commutes_1 : List UInt8 := dkwX4_commutes_1 ++ dktX4_commutes_2
def dkwX4_commutes_0 : List UInt8 := [42, 3, 181, 0, 1, 27, 184, 0, 156, 153, 0, 10, 28, 184, 0, 156, 154, 0, 5, 2, 172, 42, 27, 28]
abbrev dktX4_commutes_0 : List UInt8 := dkwX4_commutes_0 ++ dktX4_commutes_1
theorem dksX4_commutes_0 : cX4_commutes.data.toList.drop 0 = dktX4_commutes_0 := by decide +kernel
theorem dksX4_commutes_1 : cX4_commutes.data.toList.drop 24 = dktX4_commutes_1 := dk_seg dksX4_commutes_0 24 rfl rfl
theorem dksX4_commutes_2 : cX4_commutes.data.toList.drop 46 = dktX4_commutes_2 := dk_seg dksX4_commutes_1 22 rfl rfl
theorem dksX4_commutes_3 : cX4_commutes.data.toList.drop 70 = dktX4_commutes_3 := dk_seg dksX4_commutes_2 24 rfl rfl
theorem dksX4_commutes_4 : cX4_commutes.data.toList.drop 92 = dktX4_commutes_4 := dk_seg dksX4_commutes_3 22 rfl rfl
theorem dX4_commutes_0 : decode cX4_commutes 0 = .ok (.aload_n 0, 1) := dk_42 (dk_at dksX4_commutes_0 0 rfl rfl)
theorem dX4_commutes_1 : decode cX4_commutes 1 = .ok (.iconst 0, 1) := dk_3 (dk_at dksX4_commutes_0 1 rfl rfl)
theorem dX4_commutes_2 : decode cX4_commutes 2 = .ok (.putfield 1, 3) := dk_181 0 1 (dk_at dksX4_commutes_0 2 rfl rfl)
theorem dX4_commutes_5 : decode cX4_commutes 5 = .ok (.iload_n 1, 1) := dk_27 (dk_at dksX4_commutes_0 5 rfl rfl)
theorem dX4_commutes_6 : decode cX4_commutes 6 = .ok (.invokestatic 156, 3) := dk_184 0 156 (dk_at dksX4_commutes_0 6 rfl rfl)
theorem dX4_commutes_9 : decode cX4_commutes 9 = .ok (.ifCond .eq 10, 3) := dk_153 0 10 (dk_at dksX4_commutes_0 9 rfl rfl)
theorem dX4_commutes_12 : decode cX4_commutes 12 = .ok (.iload_n 2, 1) := dk_28 (dk_at dksX4_commutes_0 12 rfl rfl)
theorem dX4_commutes_13 : decode cX4_commutes 13 = .ok (.invokestatic 156, 3) := dk_184 0 156 (dk_at dksX4_commutes_0 13 rfl rfl)
theorem dX4_commutes_16 : decode cX4_commutes 16 = .ok (.ifCond .ne 5, 3) := dk_154 0 5 (dk_at dksX4_commutes_0 16 rfl rfl)
theorem dX4_commutes_19 : decode cX4_commutes 19 = .ok (.iconst (-1), 1) := dk_2 (dk_at dksX4_commutes_0 19 rfl rfl)
theorem dX4_commutes_20 : decode cX4_commutes 20 = .ok (.ireturn, 1) := dk_172 (dk_at dksX4_commutes_0 20 rfl rfl)
theorem dX4_commutes_21 : decode cX4_commutes 21 = .ok (.aload_n 0, 1) := dk_42 (dk_at dksX4_commutes_0 21 rfl rfl)
theorem dX4_commutes_22 : decode cX4_commutes 22 = .ok (.iload_n 1, 1) := dk_27 (dk_at dksX4_commutes_0 22 rfl rfl)
theorem dX4_commutes_23 : decode cX4_commutes 23 = .ok (.iload_n 2, 1) := dk_28 (dk_at dksX4_commutes_0 23 rfl rfl)
theorem dX4_commutes_24 : decode cX4_commutes 24 = .ok (.invokevirtual 160, 3) := dk_182 0 160 (dk_at dksX4_commutes_1 0 rfl rfl)
theorem dX4_commutes_27 : decode cX4_commutes 27 = .ok (.aload_n 0, 1) := dk_42 (dk_at dksX4_commutes_1 3 rfl rfl)
theorem dX4_commutes_28 : decode cX4_commutes 28 = .ok (.getfield 96, 3) := dk_180 0 96 (dk_at dksX4_commutes_1 4 rfl rfl)
theorem dX4_commutes_31 : decode cX4_commutes 31 = .ok (.lstore_n 3, 1) := dk_66 (dk_at dksX4_commutes_1 7 rfl rfl)
theorem dX4_commutes_32 : decode cX4_commutes 32 = .ok (.aload_n 0, 1) := dk_42 (dk_at dksX4_commutes_1 8 rfl rfl)
theorem dX4_commutes_33 : decode cX4_commutes 33 = .ok (.getfield 100, 3) := dk_180 0 100 (dk_at dksX4_commutes_1 9 rfl rfl)
theorem dX4_commutes_36 : decode cX4_commutes 36 = .ok (.lstore 5, 2) := dk_55 5 (dk_at dksX4_commutes_1 12 rfl rfl)
theorem dX4_commutes_38 : decode cX4_commutes 38 = .ok (.aload_n 0, 1) := dk_42 (dk_at dksX4_commutes_1 14 rfl rfl)
theorem dX4_commutes_39 : decode cX4_commutes 39 = .ok (.iload_n 2, 1) := dk_28 (dk_at dksX4_commutes_1 15 rfl rfl)
theorem dX4_commutes_40 : decode cX4_commutes 40 = .ok (.iload_n 1, 1) := dk_27 (dk_at dksX4_commutes_1 16 rfl rfl)
theorem dX4_commutes_41 : decode cX4_commutes 41 = .ok (.invokevirtual 160, 3) := dk_182 0 160 (dk_at dksX4_commutes_1 17 rfl rfl)
theorem dX4_commutes_44 : decode cX4_commutes 44 = .ok (.aload_n 0, 1) := dk_42 (dk_at dksX4_commutes_1 20 rfl rfl)
theorem dX4_commutes_45 : decode cX4_commutes 45 = .ok (.iconst 0, 1) := dk_3 (dk_at dksX4_commutes_1 21 rfl rfl)
theorem dX4_commutes_46 : decode cX4_commutes 46 = .ok (.putfield 11, 3) := dk_181 0 11 (dk_at dksX4_commutes_2 0 rfl rfl)
theorem dX4_commutes_49 : decode cX4_commutes 49 = .ok (.aload_n 0, 1) := dk_42 (dk_at dksX4_commutes_2 3 rfl rfl)
theorem dX4_commutes_50 : decode cX4_commutes 50 = .ok (.lload_n 3, 1) := dk_33 (dk_at dksX4_commutes_2 4 rfl rfl)
theorem dX4_commutes_51 : decode cX4_commutes 51 = .ok (.invokevirtual 164, 3) := dk_182 0 164 (dk_at dksX4_commutes_2 5 rfl rfl)
theorem dX4_commutes_54 : decode cX4_commutes 54 = .ok (.aload_n 0, 1) := dk_42 (dk_at dksX4_commutes_2 8 rfl rfl)
theorem dX4_commutes_55 : decode cX4_commutes 55 = .ok (.lload 5, 2) := dk_22 5 (dk_at dksX4_commutes_2 9 rfl rfl)
theorem dX4_commutes_57 : decode cX4_commutes 57 = .ok (.invokevirtual 164, 3) := dk_182 0 164 (dk_at dksX4_commutes_2 11 rfl rfl)
theorem dX4_commutes_60 : decode cX4_commutes 60 = .ok (.aload_n 0, 1) := dk_42 (dk_at dksX4_commutes_2 14 rfl rfl)
theorem dX4_commutes_61 : decode cX4_commutes 61 = .ok (.aload_n 0, 1) := dk_42 (dk_at dksX4_commutes_2 15 rfl rfl)
theorem dX4_commutes_62 : decode cX4_commutes 62 = .ok (.getfield 96, 3) := dk_180 0 96 (dk_at dksX4_commutes_2 16 rfl rfl)
theorem dX4_commutes_65 : decode cX4_commutes 65 = .ok (.invokevirtual 164, 3) := dk_182 0 164 (dk_at dksX4_commutes_2 19 rfl rfl)
theorem dX4_commutes_68 : decode cX4_commutes 68 = .ok (.aload_n 0, 1) := dk_42 (dk_at dksX4_commutes_2 22 rfl rfl)
theorem dX4_commutes_69 : decode cX4_commutes 69 = .ok (.aload_n 0, 1) := dk_42 (dk_at dksX4_commutes_2 23 rfl rfl)
theorem dX4_commutes_70 : decode cX4_commutes 70 = .ok (.getfield 100, 3) := dk_180 0 100 (dk_at dksX4_commutes_3 0 rfl rfl)
theorem dX4_commutes_73 : decode cX4_commutes 73 = .ok (.invokevirtual 164, 3) := dk_182 0 164 (dk_at dksX4_commutes_3 3 rfl rfl)
theorem dX4_commutes_76 : decode cX4_commutes 76 = .ok (.lload_n 3, 1) := dk_33 (dk_at dksX4_commutes_3 6 rfl rfl)
theorem dX4_commutes_77 : decode cX4_commutes 77 = .ok (.aload_n 0, 1) := dk_42 (dk_at dksX4_commutes_3 7 rfl rfl)
theorem dX4_commutes_78 : decode cX4_commutes 78 = .ok (.getfield 96, 3) := dk_180 0 96 (dk_at dksX4_commutes_3 8 rfl rfl)
theorem dX4_commutes_81 : decode cX4_commutes 81 = .ok (.lcmp, 1) := dk_148 (dk_at dksX4_commutes_3 11 rfl rfl)
theorem dX4_commutes_82 : decode cX4_commutes 82 = .ok (.ifCond .ne 17, 3) := dk_154 0 17 (dk_at dksX4_commutes_3 12 rfl rfl)
theorem dX4_commutes_85 : decode cX4_commutes 85 = .ok (.lload 5, 2) := dk_22 5 (dk_at dksX4_commutes_3 15 rfl rfl)
theorem dX4_commutes_87 : decode cX4_commutes 87 = .ok (.aload_n 0, 1) := dk_42 (dk_at dksX4_commutes_3 17 rfl rfl)
theorem dX4_commutes_88 : decode cX4_commutes 88 = .ok (.getfield 100, 3) := dk_180 0 100 (dk_at dksX4_commutes_3 18 rfl rfl)
theorem dX4_commutes_91 : decode cX4_commutes 91 = .ok (.lcmp, 1) := dk_148 (dk_at dksX4_commutes_3 21 rfl rfl)
theorem dX4_commutes_92 : decode cX4_commutes 92 = .ok (.ifCond .ne 7, 3) := dk_154 0 7 (dk_at dksX4_commutes_4 0 rfl rfl)
theorem dX4_commutes_95 : decode cX4_commutes 95 = .ok (.iconst 1, 1) := dk_4 (dk_at dksX4_commutes_4 3 rfl rfl)
theorem dX4_commutes_96 : decode cX4_commutes 96 = .ok (.goto 4, 3) := dk_167 0 4 (dk_at dksX4_commutes_4 4 rfl rfl)
theorem dX4_commutes_99 : decode cX4_commutes 99 = .ok (.iconst 0, 1) := dk_3 (dk_at dksX4_commutes_4 7 rfl rfl)
theorem dX4_commutes_100 : decode cX4_commutes 100 = .ok (.invokestatic 31, 3) := dk_184 0 31 (dk_at dksX4_commutes_4 8 rfl rfl)
theorem dX4_commutes_103 : decode cX4_commutes 103 = .ok (.ireturn, 1) := dk_172 (dk_at dksX4_commutes_4 11 rfl rfl)
def dkwX4_isItem_0 : List UInt8 := [26, 133, 9, 20, 0, 146, 184, 0, 21, 172]
abbrev dktX4_isItem_0 : List UInt8 := dkwX4_isItem_0 ++ []
theorem dksX4_isItem_0 : cX4_isItem.data.toList.drop 0 = dktX4_isItem_0 := by decide +kernel
theorem dX4_isItem_0 : decode cX4_isItem 0 = .ok (.iload_n 0, 1) := dk_26 (dk_at dksX4_isItem_0 0 rfl rfl)
theorem dX4_isItem_1 : decode cX4_isItem 1 = .ok (.i2l, 1) := dk_133 (dk_at dksX4_isItem_0 1 rfl rfl)
theorem dX4_isItem_2 : decode cX4_isItem 2 = .ok (.lconst 0, 1) := dk_9 (dk_at dksX4_isItem_0 2 rfl rfl)
theorem dX4_isItem_3 : decode cX4_isItem 3 = .ok (.ldc2_w 146, 3) := dk_20 0 146 (dk_at dksX4_isItem_0 3 rfl rfl)
theorem dX4_isItem_6 : decode cX4_isItem 6 = .ok (.invokestatic 21, 3) := dk_184 0 21 (dk_at dksX4_isItem_0 6 rfl rfl)
theorem dX4_isItem_9 : decode cX4_isItem 9 = .ok (.ireturn, 1) := dk_172 (dk_at dksX4_isItem_0 9 rfl rfl)
def dkwX4_joinsTwo_1 : List UInt8 := [180, 0, 96, 42, 180, 0, 100, 33, 22, 5, 182, 0, 152, 177]
abbrev dktX4_joinsTwo_1 : List UInt8 := dkwX4_joinsTwo_1 ++ []
def dkwX4_joinsTwo_0 : List UInt8 := [42, 28, 182, 0, 148, 42, 180, 0, 96, 66, 42, 180, 0, 100, 55, 5, 42, 27, 182, 0, 148, 42, 42]
abbrev dktX4_joinsTwo_0 : List UInt8 := dkwX4_joinsTwo_0 ++ dktX4_joinsTwo_1
theorem dksX4_joinsTwo_0 : cX4_joinsTwo.data.toList.drop 0 = dktX4_joinsTwo_0 := by decide +kernel
theorem dksX4_joinsTwo_1 : cX4_joinsTwo.data.toList.drop 23 = dktX4_joinsTwo_1 := dk_seg dksX4_joinsTwo_0 23 rfl rfl
theorem dX4_joinsTwo_0 : decode cX4_joinsTwo 0 = .ok (.aload_n 0, 1) := dk_42 (dk_at dksX4_joinsTwo_0 0 rfl rfl)
theorem dX4_joinsTwo_1 : decode cX4_joinsTwo 1 = .ok (.iload_n 2, 1) := dk_28 (dk_at dksX4_joinsTwo_0 1 rfl rfl)
theorem dX4_joinsTwo_2 : decode cX4_joinsTwo 2 = .ok (.invokevirtual 148, 3) := dk_182 0 148 (dk_at dksX4_joinsTwo_0 2 rfl rfl)
theorem dX4_joinsTwo_5 : decode cX4_joinsTwo 5 = .ok (.aload_n 0, 1) := dk_42 (dk_at dksX4_joinsTwo_0 5 rfl rfl)
theorem dX4_joinsTwo_6 : decode cX4_joinsTwo 6 = .ok (.getfield 96, 3) := dk_180 0 96 (dk_at dksX4_joinsTwo_0 6 rfl rfl)
theorem dX4_joinsTwo_9 : decode cX4_joinsTwo 9 = .ok (.lstore_n 3, 1) := dk_66 (dk_at dksX4_joinsTwo_0 9 rfl rfl)
theorem dX4_joinsTwo_10 : decode cX4_joinsTwo 10 = .ok (.aload_n 0, 1) := dk_42 (dk_at dksX4_joinsTwo_0 10 rfl rfl)
theorem dX4_joinsTwo_11 : decode cX4_joinsTwo 11 = .ok (.getfield 100, 3) := dk_180 0 100 (dk_at dksX4_joinsTwo_0 11 rfl rfl)
theorem dX4_joinsTwo_14 : decode cX4_joinsTwo 14 = .ok (.lstore 5, 2) := dk_55 5 (dk_at dksX4_joinsTwo_0 14 rfl rfl)
theorem dX4_joinsTwo_16 : decode cX4_joinsTwo 16 = .ok (.aload_n 0, 1) := dk_42 (dk_at dksX4_joinsTwo_0 16 rfl rfl)
theorem dX4_joinsTwo_17 : decode cX4_joinsTwo 17 = .ok (.iload_n 1, 1) := dk_27 (dk_at dksX4_joinsTwo_0 17 rfl rfl)
theorem dX4_joinsTwo_18 : decode cX4_joinsTwo 18 = .ok (.invokevirtual 148, 3) := dk_182 0 148 (dk_at dksX4_joinsTwo_0 18 rfl rfl)
theorem dX4_joinsTwo_21 : decode cX4_joinsTwo 21 = .ok (.aload_n 0, 1) := dk_42 (dk_at dksX4_joinsTwo_0 21 rfl rfl)
theorem dX4_joinsTwo_22 : decode cX4_joinsTwo 22 = .ok (.aload_n 0, 1) := dk_42 (dk_at dksX4_joinsTwo_0 22 rfl rfl)
theorem dX4_joinsTwo_23 : decode cX4_joinsTwo 23 = .ok (.getfield 96, 3) := dk_180 0 96 (dk_at dksX4_joinsTwo_1 0 rfl rfl)
theorem dX4_joinsTwo_26 : decode cX4_joinsTwo 26 = .ok (.aload_n 0, 1) := dk_42 (dk_at dksX4_joinsTwo_1 3 rfl rfl)
theorem dX4_joinsTwo_27 : decode cX4_joinsTwo 27 = .ok (.getfield 100, 3) := dk_180 0 100 (dk_at dksX4_joinsTwo_1 4 rfl rfl)
theorem dX4_joinsTwo_30 : decode cX4_joinsTwo 30 = .ok (.lload_n 3, 1) := dk_33 (dk_at dksX4_joinsTwo_1 7 rfl rfl)
theorem dX4_joinsTwo_31 : decode cX4_joinsTwo 31 = .ok (.lload 5, 2) := dk_22 5 (dk_at dksX4_joinsTwo_1 8 rfl rfl)
theorem dX4_joinsTwo_33 : decode cX4_joinsTwo 33 = .ok (.invokevirtual 152, 3) := dk_182 0 152 (dk_at dksX4_joinsTwo_1 10 rfl rfl)
theorem dX4_joinsTwo_36 : decode cX4_joinsTwo 36 = .ok (.return_, 1) := dk_177 (dk_at dksX4_joinsTwo_1 13 rfl rfl)
def dkwX4_element_6 : List UInt8 := [42, 180, 0, 45, 112, 133, 9, 182, 0, 107, 167, 0, 11, 42, 27, 133, 27, 133, 182, 0, 107, 177]
abbrev dktX4_element_6 : List UInt8 := dkwX4_element_6 ++ []
def dkwX4_element_5 : List UInt8 := [27, 16, 24, 112, 133, 42, 27, 16, 24, 112, 182, 0, 114, 5, 112, 133, 182, 0, 107, 167, 0, 26, 42, 27]
abbrev dktX4_element_5 : List UInt8 := dkwX4_element_5 ++ dktX4_element_6
def dkwX4_element_4 : List UInt8 := [27, 5, 112, 154, 0, 13, 27, 5, 108, 16, 10, 112, 133, 167, 0, 4, 9, 182, 0, 107, 167, 0, 49, 42]
abbrev dktX4_element_4 : List UInt8 := dkwX4_element_4 ++ dktX4_element_5
def dkwX4_element_3 : List UInt8 := [182, 0, 107, 167, 0, 90, 42, 27, 5, 112, 154, 0, 7, 9, 167, 0, 10, 27, 5, 108, 16, 10, 112, 133]
abbrev dktX4_element_3 : List UInt8 := dkwX4_element_3 ++ dktX4_element_4
def dkwX4_element_2 : List UInt8 := [42, 27, 133, 10, 182, 0, 107, 167, 0, 110, 42, 27, 16, 101, 108, 16, 101, 112, 133, 27, 16, 101, 112, 133]
abbrev dktX4_element_2 : List UInt8 := dkwX4_element_2 ++ dktX4_element_3
def dkwX4_element_1 : List UInt8 := [170, 0, 0, 0, 0, 0, 0, 157, 0, 0, 0, 0, 0, 0, 0, 7, 0, 0, 0, 48, 0, 0, 0, 157, 0, 0, 0, 157, 0, 0, 0, 58, 0, 0, 0, 78, 0, 0, 0, 119, 0, 0, 0, 157, 0, 0, 0, 142]
abbrev dktX4_element_1 : List UInt8 := dkwX4_element_1 ++ dktX4_element_2
def dkwX4_element_0 : List UInt8 := [42, 180, 0, 93]
abbrev dktX4_element_0 : List UInt8 := dkwX4_element_0 ++ dktX4_element_1
theorem dksX4_element_0 : cX4_element.data.toList.drop 0 = dktX4_element_0 := by decide +kernel
theorem dksX4_element_1 : cX4_element.data.toList.drop 4 = dktX4_element_1 := dk_seg dksX4_element_0 4 rfl rfl
theorem dksX4_element_2 : cX4_element.data.toList.drop 52 = dktX4_element_2 := dk_seg dksX4_element_1 48 rfl rfl
theorem dksX4_element_3 : cX4_element.data.toList.drop 76 = dktX4_element_3 := dk_seg dksX4_element_2 24 rfl rfl
theorem dksX4_element_4 : cX4_element.data.toList.drop 100 = dktX4_element_4 := dk_seg dksX4_element_3 24 rfl rfl
theorem dksX4_element_5 : cX4_element.data.toList.drop 124 = dktX4_element_5 := dk_seg dksX4_element_4 24 rfl rfl
theorem dksX4_element_6 : cX4_element.data.toList.drop 148 = dktX4_element_6 := dk_seg dksX4_element_5 24 rfl rfl
theorem dX4_element_0 : decode cX4_element 0 = .ok (.aload_n 0, 1) := dk_42 (dk_at dksX4_element_0 0 rfl rfl)
theorem dX4_element_1 : decode cX4_element 1 = .ok (.getfield 93, 3) := dk_180 0 93 (dk_at dksX4_element_0 1 rfl rfl)
theorem dX4_element_4 : decode cX4_element 4 = .ok (.tableswitch 157 0 7 #[48, 157, 157, 58, 78, 119, 157, 142], 48) := by decide +kernel
theorem dX4_element_52 : decode cX4_element 52 = .ok (.aload_n 0, 1) := dk_42 (dk_at dksX4_element_2 0 rfl rfl)
theorem dX4_element_53 : decode cX4_element 53 = .ok (.iload_n 1, 1) := dk_27 (dk_at dksX4_element_2 1 rfl rfl)
theorem dX4_element_54 : decode cX4_element 54 = .ok (.i2l, 1) := dk_133 (dk_at dksX4_element_2 2 rfl rfl)
theorem dX4_element_55 : decode cX4_element 55 = .ok (.lconst 1, 1) := dk_10 (dk_at dksX4_element_2 3 rfl rfl)
theorem dX4_element_56 : decode cX4_element 56 = .ok (.invokevirtual 107, 3) := dk_182 0 107 (dk_at dksX4_element_2 4 rfl rfl)
theorem dX4_element_59 : decode cX4_element 59 = .ok (.goto 110, 3) := dk_167 0 110 (dk_at dksX4_element_2 7 rfl rfl)
theorem dX4_element_62 : decode cX4_element 62 = .ok (.aload_n 0, 1) := dk_42 (dk_at dksX4_element_2 10 rfl rfl)
theorem dX4_element_63 : decode cX4_element 63 = .ok (.iload_n 1, 1) := dk_27 (dk_at dksX4_element_2 11 rfl rfl)
theorem dX4_element_64 : decode cX4_element 64 = .ok (.bipush 101, 2) := dk_16 101 (dk_at dksX4_element_2 12 rfl rfl)
theorem dX4_element_66 : decode cX4_element 66 = .ok (.idiv, 1) := dk_108 (dk_at dksX4_element_2 14 rfl rfl)
theorem dX4_element_67 : decode cX4_element 67 = .ok (.bipush 101, 2) := dk_16 101 (dk_at dksX4_element_2 15 rfl rfl)
theorem dX4_element_69 : decode cX4_element 69 = .ok (.irem, 1) := dk_112 (dk_at dksX4_element_2 17 rfl rfl)
theorem dX4_element_70 : decode cX4_element 70 = .ok (.i2l, 1) := dk_133 (dk_at dksX4_element_2 18 rfl rfl)
theorem dX4_element_71 : decode cX4_element 71 = .ok (.iload_n 1, 1) := dk_27 (dk_at dksX4_element_2 19 rfl rfl)
theorem dX4_element_72 : decode cX4_element 72 = .ok (.bipush 101, 2) := dk_16 101 (dk_at dksX4_element_2 20 rfl rfl)
theorem dX4_element_74 : decode cX4_element 74 = .ok (.irem, 1) := dk_112 (dk_at dksX4_element_2 22 rfl rfl)
theorem dX4_element_75 : decode cX4_element 75 = .ok (.i2l, 1) := dk_133 (dk_at dksX4_element_2 23 rfl rfl)
theorem dX4_element_76 : decode cX4_element 76 = .ok (.invokevirtual 107, 3) := dk_182 0 107 (dk_at dksX4_element_3 0 rfl rfl)
theorem dX4_element_79 : decode cX4_element 79 = .ok (.goto 90, 3) := dk_167 0 90 (dk_at dksX4_element_3 3 rfl rfl)
theorem dX4_element_82 : decode cX4_element 82 = .ok (.aload_n 0, 1) := dk_42 (dk_at dksX4_element_3 6 rfl rfl)
theorem dX4_element_83 : decode cX4_element 83 = .ok (.iload_n 1, 1) := dk_27 (dk_at dksX4_element_3 7 rfl rfl)
theorem dX4_element_84 : decode cX4_element 84 = .ok (.iconst 2, 1) := dk_5 (dk_at dksX4_element_3 8 rfl rfl)
theorem dX4_element_85 : decode cX4_element 85 = .ok (.irem, 1) := dk_112 (dk_at dksX4_element_3 9 rfl rfl)
theorem dX4_element_86 : decode cX4_element 86 = .ok (.ifCond .ne 7, 3) := dk_154 0 7 (dk_at dksX4_element_3 10 rfl rfl)
theorem dX4_element_89 : decode cX4_element 89 = .ok (.lconst 0, 1) := dk_9 (dk_at dksX4_element_3 13 rfl rfl)
theorem dX4_element_90 : decode cX4_element 90 = .ok (.goto 10, 3) := dk_167 0 10 (dk_at dksX4_element_3 14 rfl rfl)
theorem dX4_element_93 : decode cX4_element 93 = .ok (.iload_n 1, 1) := dk_27 (dk_at dksX4_element_3 17 rfl rfl)
theorem dX4_element_94 : decode cX4_element 94 = .ok (.iconst 2, 1) := dk_5 (dk_at dksX4_element_3 18 rfl rfl)
theorem dX4_element_95 : decode cX4_element 95 = .ok (.idiv, 1) := dk_108 (dk_at dksX4_element_3 19 rfl rfl)
theorem dX4_element_96 : decode cX4_element 96 = .ok (.bipush 10, 2) := dk_16 10 (dk_at dksX4_element_3 20 rfl rfl)
theorem dX4_element_98 : decode cX4_element 98 = .ok (.irem, 1) := dk_112 (dk_at dksX4_element_3 22 rfl rfl)
theorem dX4_element_99 : decode cX4_element 99 = .ok (.i2l, 1) := dk_133 (dk_at dksX4_element_3 23 rfl rfl)
theorem dX4_element_100 : decode cX4_element 100 = .ok (.iload_n 1, 1) := dk_27 (dk_at dksX4_element_4 0 rfl rfl)
theorem dX4_element_101 : decode cX4_element 101 = .ok (.iconst 2, 1) := dk_5 (dk_at dksX4_element_4 1 rfl rfl)
theorem dX4_element_102 : decode cX4_element 102 = .ok (.irem, 1) := dk_112 (dk_at dksX4_element_4 2 rfl rfl)
theorem dX4_element_103 : decode cX4_element 103 = .ok (.ifCond .ne 13, 3) := dk_154 0 13 (dk_at dksX4_element_4 3 rfl rfl)
theorem dX4_element_106 : decode cX4_element 106 = .ok (.iload_n 1, 1) := dk_27 (dk_at dksX4_element_4 6 rfl rfl)
theorem dX4_element_107 : decode cX4_element 107 = .ok (.iconst 2, 1) := dk_5 (dk_at dksX4_element_4 7 rfl rfl)
theorem dX4_element_108 : decode cX4_element 108 = .ok (.idiv, 1) := dk_108 (dk_at dksX4_element_4 8 rfl rfl)
theorem dX4_element_109 : decode cX4_element 109 = .ok (.bipush 10, 2) := dk_16 10 (dk_at dksX4_element_4 9 rfl rfl)
theorem dX4_element_111 : decode cX4_element 111 = .ok (.irem, 1) := dk_112 (dk_at dksX4_element_4 11 rfl rfl)
theorem dX4_element_112 : decode cX4_element 112 = .ok (.i2l, 1) := dk_133 (dk_at dksX4_element_4 12 rfl rfl)
theorem dX4_element_113 : decode cX4_element 113 = .ok (.goto 4, 3) := dk_167 0 4 (dk_at dksX4_element_4 13 rfl rfl)
theorem dX4_element_116 : decode cX4_element 116 = .ok (.lconst 0, 1) := dk_9 (dk_at dksX4_element_4 16 rfl rfl)
theorem dX4_element_117 : decode cX4_element 117 = .ok (.invokevirtual 107, 3) := dk_182 0 107 (dk_at dksX4_element_4 17 rfl rfl)
theorem dX4_element_120 : decode cX4_element 120 = .ok (.goto 49, 3) := dk_167 0 49 (dk_at dksX4_element_4 20 rfl rfl)
theorem dX4_element_123 : decode cX4_element 123 = .ok (.aload_n 0, 1) := dk_42 (dk_at dksX4_element_4 23 rfl rfl)
theorem dX4_element_124 : decode cX4_element 124 = .ok (.iload_n 1, 1) := dk_27 (dk_at dksX4_element_5 0 rfl rfl)
theorem dX4_element_125 : decode cX4_element 125 = .ok (.bipush 24, 2) := dk_16 24 (dk_at dksX4_element_5 1 rfl rfl)
theorem dX4_element_127 : decode cX4_element 127 = .ok (.irem, 1) := dk_112 (dk_at dksX4_element_5 3 rfl rfl)
theorem dX4_element_128 : decode cX4_element 128 = .ok (.i2l, 1) := dk_133 (dk_at dksX4_element_5 4 rfl rfl)
theorem dX4_element_129 : decode cX4_element 129 = .ok (.aload_n 0, 1) := dk_42 (dk_at dksX4_element_5 5 rfl rfl)
theorem dX4_element_130 : decode cX4_element 130 = .ok (.iload_n 1, 1) := dk_27 (dk_at dksX4_element_5 6 rfl rfl)
theorem dX4_element_131 : decode cX4_element 131 = .ok (.bipush 24, 2) := dk_16 24 (dk_at dksX4_element_5 7 rfl rfl)
theorem dX4_element_133 : decode cX4_element 133 = .ok (.irem, 1) := dk_112 (dk_at dksX4_element_5 9 rfl rfl)
theorem dX4_element_134 : decode cX4_element 134 = .ok (.invokevirtual 114, 3) := dk_182 0 114 (dk_at dksX4_element_5 10 rfl rfl)
theorem dX4_element_137 : decode cX4_element 137 = .ok (.iconst 2, 1) := dk_5 (dk_at dksX4_element_5 13 rfl rfl)
theorem dX4_element_138 : decode cX4_element 138 = .ok (.irem, 1) := dk_112 (dk_at dksX4_element_5 14 rfl rfl)
theorem dX4_element_139 : decode cX4_element 139 = .ok (.i2l, 1) := dk_133 (dk_at dksX4_element_5 15 rfl rfl)
theorem dX4_element_140 : decode cX4_element 140 = .ok (.invokevirtual 107, 3) := dk_182 0 107 (dk_at dksX4_element_5 16 rfl rfl)
theorem dX4_element_143 : decode cX4_element 143 = .ok (.goto 26, 3) := dk_167 0 26 (dk_at dksX4_element_5 19 rfl rfl)
theorem dX4_element_146 : decode cX4_element 146 = .ok (.aload_n 0, 1) := dk_42 (dk_at dksX4_element_5 22 rfl rfl)
theorem dX4_element_147 : decode cX4_element 147 = .ok (.iload_n 1, 1) := dk_27 (dk_at dksX4_element_5 23 rfl rfl)
theorem dX4_element_148 : decode cX4_element 148 = .ok (.aload_n 0, 1) := dk_42 (dk_at dksX4_element_6 0 rfl rfl)
theorem dX4_element_149 : decode cX4_element 149 = .ok (.getfield 45, 3) := dk_180 0 45 (dk_at dksX4_element_6 1 rfl rfl)
theorem dX4_element_152 : decode cX4_element 152 = .ok (.irem, 1) := dk_112 (dk_at dksX4_element_6 4 rfl rfl)
theorem dX4_element_153 : decode cX4_element 153 = .ok (.i2l, 1) := dk_133 (dk_at dksX4_element_6 5 rfl rfl)
theorem dX4_element_154 : decode cX4_element 154 = .ok (.lconst 0, 1) := dk_9 (dk_at dksX4_element_6 6 rfl rfl)
theorem dX4_element_155 : decode cX4_element 155 = .ok (.invokevirtual 107, 3) := dk_182 0 107 (dk_at dksX4_element_6 7 rfl rfl)
theorem dX4_element_158 : decode cX4_element 158 = .ok (.goto 11, 3) := dk_167 0 11 (dk_at dksX4_element_6 10 rfl rfl)
theorem dX4_element_161 : decode cX4_element 161 = .ok (.aload_n 0, 1) := dk_42 (dk_at dksX4_element_6 13 rfl rfl)
theorem dX4_element_162 : decode cX4_element 162 = .ok (.iload_n 1, 1) := dk_27 (dk_at dksX4_element_6 14 rfl rfl)
theorem dX4_element_163 : decode cX4_element 163 = .ok (.i2l, 1) := dk_133 (dk_at dksX4_element_6 15 rfl rfl)
theorem dX4_element_164 : decode cX4_element 164 = .ok (.iload_n 1, 1) := dk_27 (dk_at dksX4_element_6 16 rfl rfl)
theorem dX4_element_165 : decode cX4_element 165 = .ok (.i2l, 1) := dk_133 (dk_at dksX4_element_6 17 rfl rfl)
theorem dX4_element_166 : decode cX4_element 166 = .ok (.invokevirtual 107, 3) := dk_182 0 107 (dk_at dksX4_element_6 18 rfl rfl)
theorem dX4_element_169 : decode cX4_element 169 = .ok (.return_, 1) := dk_177 (dk_at dksX4_element_6 21 rfl rfl)
def dkwX4_is_0 : List UInt8 := [42, 31, 181, 0, 96, 42, 33, 181, 0, 100, 177]
abbrev dktX4_is_0 : List UInt8 := dkwX4_is_0 ++ []
theorem dksX4_is_0 : cX4_is.data.toList.drop 0 = dktX4_is_0 := by decide +kernel
theorem dX4_is_0 : decode cX4_is 0 = .ok (.aload_n 0, 1) := dk_42 (dk_at dksX4_is_0 0 rfl rfl)
theorem dX4_is_1 : decode cX4_is 1 = .ok (.lload_n 1, 1) := dk_31 (dk_at dksX4_is_0 1 rfl rfl)
theorem dX4_is_2 : decode cX4_is 2 = .ok (.putfield 96, 3) := dk_181 0 96 (dk_at dksX4_is_0 2 rfl rfl)
theorem dX4_is_5 : decode cX4_is 5 = .ok (.aload_n 0, 1) := dk_42 (dk_at dksX4_is_0 5 rfl rfl)
theorem dX4_is_6 : decode cX4_is 6 = .ok (.lload_n 3, 1) := dk_33 (dk_at dksX4_is_0 6 rfl rfl)
theorem dX4_is_7 : decode cX4_is 7 = .ok (.putfield 100, 3) := dk_181 0 100 (dk_at dksX4_is_0 7 rfl rfl)
theorem dX4_is_10 : decode cX4_is 10 = .ok (.return_, 1) := dk_177 (dk_at dksX4_is_0 10 rfl rfl)
def dkwX4_leaps_2 : List UInt8 := [167, 0, 4, 3, 184, 0, 31, 96, 61, 132, 4, 1, 167, 255, 220, 132, 3, 1, 167, 255, 204, 28, 172]
abbrev dktX4_leaps_2 : List UInt8 := dkwX4_leaps_2 ++ []
def dkwX4_leaps_1 : List UInt8 := [7, 162, 0, 36, 28, 42, 180, 0, 51, 29, 46, 42, 180, 0, 51, 21, 4, 46, 164, 0, 7, 4]
abbrev dktX4_leaps_1 : List UInt8 := dkwX4_leaps_1 ++ dktX4_leaps_2
def dkwX4_leaps_0 : List UInt8 := [27, 42, 180, 0, 51, 184, 0, 118, 3, 61, 3, 62, 29, 7, 162, 0, 53, 29, 4, 96, 54, 4, 21, 4]
abbrev dktX4_leaps_0 : List UInt8 := dkwX4_leaps_0 ++ dktX4_leaps_1
theorem dksX4_leaps_0 : cX4_leaps.data.toList.drop 0 = dktX4_leaps_0 := by decide +kernel
theorem dksX4_leaps_1 : cX4_leaps.data.toList.drop 24 = dktX4_leaps_1 := dk_seg dksX4_leaps_0 24 rfl rfl
theorem dksX4_leaps_2 : cX4_leaps.data.toList.drop 46 = dktX4_leaps_2 := dk_seg dksX4_leaps_1 22 rfl rfl
theorem dX4_leaps_0 : decode cX4_leaps 0 = .ok (.iload_n 1, 1) := dk_27 (dk_at dksX4_leaps_0 0 rfl rfl)
theorem dX4_leaps_1 : decode cX4_leaps 1 = .ok (.aload_n 0, 1) := dk_42 (dk_at dksX4_leaps_0 1 rfl rfl)
theorem dX4_leaps_2 : decode cX4_leaps 2 = .ok (.getfield 51, 3) := dk_180 0 51 (dk_at dksX4_leaps_0 2 rfl rfl)
theorem dX4_leaps_5 : decode cX4_leaps 5 = .ok (.invokestatic 118, 3) := dk_184 0 118 (dk_at dksX4_leaps_0 5 rfl rfl)
theorem dX4_leaps_8 : decode cX4_leaps 8 = .ok (.iconst 0, 1) := dk_3 (dk_at dksX4_leaps_0 8 rfl rfl)
theorem dX4_leaps_9 : decode cX4_leaps 9 = .ok (.istore_n 2, 1) := dk_61 (dk_at dksX4_leaps_0 9 rfl rfl)
theorem dX4_leaps_10 : decode cX4_leaps 10 = .ok (.iconst 0, 1) := dk_3 (dk_at dksX4_leaps_0 10 rfl rfl)
theorem dX4_leaps_11 : decode cX4_leaps 11 = .ok (.istore_n 3, 1) := dk_62 (dk_at dksX4_leaps_0 11 rfl rfl)
theorem dX4_leaps_12 : decode cX4_leaps 12 = .ok (.iload_n 3, 1) := dk_29 (dk_at dksX4_leaps_0 12 rfl rfl)
theorem dX4_leaps_13 : decode cX4_leaps 13 = .ok (.iconst 4, 1) := dk_7 (dk_at dksX4_leaps_0 13 rfl rfl)
theorem dX4_leaps_14 : decode cX4_leaps 14 = .ok (.if_icmp .ge 53, 3) := dk_162 0 53 (dk_at dksX4_leaps_0 14 rfl rfl)
theorem dX4_leaps_17 : decode cX4_leaps 17 = .ok (.iload_n 3, 1) := dk_29 (dk_at dksX4_leaps_0 17 rfl rfl)
theorem dX4_leaps_18 : decode cX4_leaps 18 = .ok (.iconst 1, 1) := dk_4 (dk_at dksX4_leaps_0 18 rfl rfl)
theorem dX4_leaps_19 : decode cX4_leaps 19 = .ok (.iadd, 1) := dk_96 (dk_at dksX4_leaps_0 19 rfl rfl)
theorem dX4_leaps_20 : decode cX4_leaps 20 = .ok (.istore 4, 2) := dk_54 4 (dk_at dksX4_leaps_0 20 rfl rfl)
theorem dX4_leaps_22 : decode cX4_leaps 22 = .ok (.iload 4, 2) := dk_21 4 (dk_at dksX4_leaps_0 22 rfl rfl)
theorem dX4_leaps_24 : decode cX4_leaps 24 = .ok (.iconst 4, 1) := dk_7 (dk_at dksX4_leaps_1 0 rfl rfl)
theorem dX4_leaps_25 : decode cX4_leaps 25 = .ok (.if_icmp .ge 36, 3) := dk_162 0 36 (dk_at dksX4_leaps_1 1 rfl rfl)
theorem dX4_leaps_28 : decode cX4_leaps 28 = .ok (.iload_n 2, 1) := dk_28 (dk_at dksX4_leaps_1 4 rfl rfl)
theorem dX4_leaps_29 : decode cX4_leaps 29 = .ok (.aload_n 0, 1) := dk_42 (dk_at dksX4_leaps_1 5 rfl rfl)
theorem dX4_leaps_30 : decode cX4_leaps 30 = .ok (.getfield 51, 3) := dk_180 0 51 (dk_at dksX4_leaps_1 6 rfl rfl)
theorem dX4_leaps_33 : decode cX4_leaps 33 = .ok (.iload_n 3, 1) := dk_29 (dk_at dksX4_leaps_1 9 rfl rfl)
theorem dX4_leaps_34 : decode cX4_leaps 34 = .ok (.iaload, 1) := dk_46 (dk_at dksX4_leaps_1 10 rfl rfl)
theorem dX4_leaps_35 : decode cX4_leaps 35 = .ok (.aload_n 0, 1) := dk_42 (dk_at dksX4_leaps_1 11 rfl rfl)
theorem dX4_leaps_36 : decode cX4_leaps 36 = .ok (.getfield 51, 3) := dk_180 0 51 (dk_at dksX4_leaps_1 12 rfl rfl)
theorem dX4_leaps_39 : decode cX4_leaps 39 = .ok (.iload 4, 2) := dk_21 4 (dk_at dksX4_leaps_1 15 rfl rfl)
theorem dX4_leaps_41 : decode cX4_leaps 41 = .ok (.iaload, 1) := dk_46 (dk_at dksX4_leaps_1 17 rfl rfl)
theorem dX4_leaps_42 : decode cX4_leaps 42 = .ok (.if_icmp .le 7, 3) := dk_164 0 7 (dk_at dksX4_leaps_1 18 rfl rfl)
theorem dX4_leaps_45 : decode cX4_leaps 45 = .ok (.iconst 1, 1) := dk_4 (dk_at dksX4_leaps_1 21 rfl rfl)
theorem dX4_leaps_46 : decode cX4_leaps 46 = .ok (.goto 4, 3) := dk_167 0 4 (dk_at dksX4_leaps_2 0 rfl rfl)
theorem dX4_leaps_49 : decode cX4_leaps 49 = .ok (.iconst 0, 1) := dk_3 (dk_at dksX4_leaps_2 3 rfl rfl)
theorem dX4_leaps_50 : decode cX4_leaps 50 = .ok (.invokestatic 31, 3) := dk_184 0 31 (dk_at dksX4_leaps_2 4 rfl rfl)
theorem dX4_leaps_53 : decode cX4_leaps 53 = .ok (.iadd, 1) := dk_96 (dk_at dksX4_leaps_2 7 rfl rfl)
theorem dX4_leaps_54 : decode cX4_leaps 54 = .ok (.istore_n 2, 1) := dk_61 (dk_at dksX4_leaps_2 8 rfl rfl)
theorem dX4_leaps_55 : decode cX4_leaps 55 = .ok (.iinc 4 1, 3) := dk_132 4 1 (dk_at dksX4_leaps_2 9 rfl rfl)
theorem dX4_leaps_58 : decode cX4_leaps 58 = .ok (.goto (-36), 3) := dk_167 255 220 (dk_at dksX4_leaps_2 12 rfl rfl)
theorem dX4_leaps_61 : decode cX4_leaps 61 = .ok (.iinc 3 1, 3) := dk_132 3 1 (dk_at dksX4_leaps_2 15 rfl rfl)
theorem dX4_leaps_64 : decode cX4_leaps 64 = .ok (.goto (-52), 3) := dk_167 255 204 (dk_at dksX4_leaps_2 18 rfl rfl)
theorem dX4_leaps_67 : decode cX4_leaps 67 = .ok (.iload_n 2, 1) := dk_28 (dk_at dksX4_leaps_2 21 rfl rfl)
theorem dX4_leaps_68 : decode cX4_leaps 68 = .ok (.ireturn, 1) := dk_172 (dk_at dksX4_leaps_2 22 rfl rfl)
def dkwX4_lays_4 : List UInt8 := [21, 7, 79, 28, 4, 21, 7, 120, 128, 61, 132, 5, 1, 167, 255, 158, 177]
abbrev dktX4_lays_4 : List UInt8 := dkwX4_lays_4 ++ []
def dkwX4_lays_3 : List UInt8 := [126, 154, 0, 7, 4, 167, 0, 4, 3, 184, 0, 31, 100, 54, 6, 132, 7, 1, 167, 255, 216, 43, 21, 5]
abbrev dktX4_lays_3 : List UInt8 := dkwX4_lays_3 ++ dktX4_lays_4
def dkwX4_lays_2 : List UInt8 := [54, 7, 28, 21, 7, 122, 4, 126, 4, 159, 0, 8, 21, 6, 158, 0, 31, 21, 6, 28, 21, 7, 122, 4]
abbrev dktX4_lays_2 : List UInt8 := dkwX4_lays_2 ++ dktX4_lays_3
def dkwX4_lays_1 : List UInt8 := [21, 4, 112, 62, 21, 5, 5, 162, 0, 13, 21, 4, 6, 21, 5, 100, 108, 167, 0, 4, 4, 54, 4, 3]
abbrev dktX4_lays_1 : List UInt8 := dkwX4_lays_1 ++ dktX4_lays_2
def dkwX4_lays_0 : List UInt8 := [3, 61, 26, 62, 16, 6, 54, 4, 3, 54, 5, 21, 5, 7, 162, 0, 98, 29, 21, 4, 108, 54, 6, 29]
abbrev dktX4_lays_0 : List UInt8 := dkwX4_lays_0 ++ dktX4_lays_1
theorem dksX4_lays_0 : cX4_lays.data.toList.drop 0 = dktX4_lays_0 := by decide +kernel
theorem dksX4_lays_1 : cX4_lays.data.toList.drop 24 = dktX4_lays_1 := dk_seg dksX4_lays_0 24 rfl rfl
theorem dksX4_lays_2 : cX4_lays.data.toList.drop 48 = dktX4_lays_2 := dk_seg dksX4_lays_1 24 rfl rfl
theorem dksX4_lays_3 : cX4_lays.data.toList.drop 72 = dktX4_lays_3 := dk_seg dksX4_lays_2 24 rfl rfl
theorem dksX4_lays_4 : cX4_lays.data.toList.drop 96 = dktX4_lays_4 := dk_seg dksX4_lays_3 24 rfl rfl
theorem dX4_lays_0 : decode cX4_lays 0 = .ok (.iconst 0, 1) := dk_3 (dk_at dksX4_lays_0 0 rfl rfl)
theorem dX4_lays_1 : decode cX4_lays 1 = .ok (.istore_n 2, 1) := dk_61 (dk_at dksX4_lays_0 1 rfl rfl)
theorem dX4_lays_2 : decode cX4_lays 2 = .ok (.iload_n 0, 1) := dk_26 (dk_at dksX4_lays_0 2 rfl rfl)
theorem dX4_lays_3 : decode cX4_lays 3 = .ok (.istore_n 3, 1) := dk_62 (dk_at dksX4_lays_0 3 rfl rfl)
theorem dX4_lays_4 : decode cX4_lays 4 = .ok (.bipush 6, 2) := dk_16 6 (dk_at dksX4_lays_0 4 rfl rfl)
theorem dX4_lays_6 : decode cX4_lays 6 = .ok (.istore 4, 2) := dk_54 4 (dk_at dksX4_lays_0 6 rfl rfl)
theorem dX4_lays_8 : decode cX4_lays 8 = .ok (.iconst 0, 1) := dk_3 (dk_at dksX4_lays_0 8 rfl rfl)
theorem dX4_lays_9 : decode cX4_lays 9 = .ok (.istore 5, 2) := dk_54 5 (dk_at dksX4_lays_0 9 rfl rfl)
theorem dX4_lays_11 : decode cX4_lays 11 = .ok (.iload 5, 2) := dk_21 5 (dk_at dksX4_lays_0 11 rfl rfl)
theorem dX4_lays_13 : decode cX4_lays 13 = .ok (.iconst 4, 1) := dk_7 (dk_at dksX4_lays_0 13 rfl rfl)
theorem dX4_lays_14 : decode cX4_lays 14 = .ok (.if_icmp .ge 98, 3) := dk_162 0 98 (dk_at dksX4_lays_0 14 rfl rfl)
theorem dX4_lays_17 : decode cX4_lays 17 = .ok (.iload_n 3, 1) := dk_29 (dk_at dksX4_lays_0 17 rfl rfl)
theorem dX4_lays_18 : decode cX4_lays 18 = .ok (.iload 4, 2) := dk_21 4 (dk_at dksX4_lays_0 18 rfl rfl)
theorem dX4_lays_20 : decode cX4_lays 20 = .ok (.idiv, 1) := dk_108 (dk_at dksX4_lays_0 20 rfl rfl)
theorem dX4_lays_21 : decode cX4_lays 21 = .ok (.istore 6, 2) := dk_54 6 (dk_at dksX4_lays_0 21 rfl rfl)
theorem dX4_lays_23 : decode cX4_lays 23 = .ok (.iload_n 3, 1) := dk_29 (dk_at dksX4_lays_0 23 rfl rfl)
theorem dX4_lays_24 : decode cX4_lays 24 = .ok (.iload 4, 2) := dk_21 4 (dk_at dksX4_lays_1 0 rfl rfl)
theorem dX4_lays_26 : decode cX4_lays 26 = .ok (.irem, 1) := dk_112 (dk_at dksX4_lays_1 2 rfl rfl)
theorem dX4_lays_27 : decode cX4_lays 27 = .ok (.istore_n 3, 1) := dk_62 (dk_at dksX4_lays_1 3 rfl rfl)
theorem dX4_lays_28 : decode cX4_lays 28 = .ok (.iload 5, 2) := dk_21 5 (dk_at dksX4_lays_1 4 rfl rfl)
theorem dX4_lays_30 : decode cX4_lays 30 = .ok (.iconst 2, 1) := dk_5 (dk_at dksX4_lays_1 6 rfl rfl)
theorem dX4_lays_31 : decode cX4_lays 31 = .ok (.if_icmp .ge 13, 3) := dk_162 0 13 (dk_at dksX4_lays_1 7 rfl rfl)
theorem dX4_lays_34 : decode cX4_lays 34 = .ok (.iload 4, 2) := dk_21 4 (dk_at dksX4_lays_1 10 rfl rfl)
theorem dX4_lays_36 : decode cX4_lays 36 = .ok (.iconst 3, 1) := dk_6 (dk_at dksX4_lays_1 12 rfl rfl)
theorem dX4_lays_37 : decode cX4_lays 37 = .ok (.iload 5, 2) := dk_21 5 (dk_at dksX4_lays_1 13 rfl rfl)
theorem dX4_lays_39 : decode cX4_lays 39 = .ok (.isub, 1) := dk_100 (dk_at dksX4_lays_1 15 rfl rfl)
theorem dX4_lays_40 : decode cX4_lays 40 = .ok (.idiv, 1) := dk_108 (dk_at dksX4_lays_1 16 rfl rfl)
theorem dX4_lays_41 : decode cX4_lays 41 = .ok (.goto 4, 3) := dk_167 0 4 (dk_at dksX4_lays_1 17 rfl rfl)
theorem dX4_lays_44 : decode cX4_lays 44 = .ok (.iconst 1, 1) := dk_4 (dk_at dksX4_lays_1 20 rfl rfl)
theorem dX4_lays_45 : decode cX4_lays 45 = .ok (.istore 4, 2) := dk_54 4 (dk_at dksX4_lays_1 21 rfl rfl)
theorem dX4_lays_47 : decode cX4_lays 47 = .ok (.iconst 0, 1) := dk_3 (dk_at dksX4_lays_1 23 rfl rfl)
theorem dX4_lays_48 : decode cX4_lays 48 = .ok (.istore 7, 2) := dk_54 7 (dk_at dksX4_lays_2 0 rfl rfl)
theorem dX4_lays_50 : decode cX4_lays 50 = .ok (.iload_n 2, 1) := dk_28 (dk_at dksX4_lays_2 2 rfl rfl)
theorem dX4_lays_51 : decode cX4_lays 51 = .ok (.iload 7, 2) := dk_21 7 (dk_at dksX4_lays_2 3 rfl rfl)
theorem dX4_lays_53 : decode cX4_lays 53 = .ok (.ishr, 1) := dk_122 (dk_at dksX4_lays_2 5 rfl rfl)
theorem dX4_lays_54 : decode cX4_lays 54 = .ok (.iconst 1, 1) := dk_4 (dk_at dksX4_lays_2 6 rfl rfl)
theorem dX4_lays_55 : decode cX4_lays 55 = .ok (.iand, 1) := dk_126 (dk_at dksX4_lays_2 7 rfl rfl)
theorem dX4_lays_56 : decode cX4_lays 56 = .ok (.iconst 1, 1) := dk_4 (dk_at dksX4_lays_2 8 rfl rfl)
theorem dX4_lays_57 : decode cX4_lays 57 = .ok (.if_icmp .eq 8, 3) := dk_159 0 8 (dk_at dksX4_lays_2 9 rfl rfl)
theorem dX4_lays_60 : decode cX4_lays 60 = .ok (.iload 6, 2) := dk_21 6 (dk_at dksX4_lays_2 12 rfl rfl)
theorem dX4_lays_62 : decode cX4_lays 62 = .ok (.ifCond .le 31, 3) := dk_158 0 31 (dk_at dksX4_lays_2 14 rfl rfl)
theorem dX4_lays_65 : decode cX4_lays 65 = .ok (.iload 6, 2) := dk_21 6 (dk_at dksX4_lays_2 17 rfl rfl)
theorem dX4_lays_67 : decode cX4_lays 67 = .ok (.iload_n 2, 1) := dk_28 (dk_at dksX4_lays_2 19 rfl rfl)
theorem dX4_lays_68 : decode cX4_lays 68 = .ok (.iload 7, 2) := dk_21 7 (dk_at dksX4_lays_2 20 rfl rfl)
theorem dX4_lays_70 : decode cX4_lays 70 = .ok (.ishr, 1) := dk_122 (dk_at dksX4_lays_2 22 rfl rfl)
theorem dX4_lays_71 : decode cX4_lays 71 = .ok (.iconst 1, 1) := dk_4 (dk_at dksX4_lays_2 23 rfl rfl)
theorem dX4_lays_72 : decode cX4_lays 72 = .ok (.iand, 1) := dk_126 (dk_at dksX4_lays_3 0 rfl rfl)
theorem dX4_lays_73 : decode cX4_lays 73 = .ok (.ifCond .ne 7, 3) := dk_154 0 7 (dk_at dksX4_lays_3 1 rfl rfl)
theorem dX4_lays_76 : decode cX4_lays 76 = .ok (.iconst 1, 1) := dk_4 (dk_at dksX4_lays_3 4 rfl rfl)
theorem dX4_lays_77 : decode cX4_lays 77 = .ok (.goto 4, 3) := dk_167 0 4 (dk_at dksX4_lays_3 5 rfl rfl)
theorem dX4_lays_80 : decode cX4_lays 80 = .ok (.iconst 0, 1) := dk_3 (dk_at dksX4_lays_3 8 rfl rfl)
theorem dX4_lays_81 : decode cX4_lays 81 = .ok (.invokestatic 31, 3) := dk_184 0 31 (dk_at dksX4_lays_3 9 rfl rfl)
theorem dX4_lays_84 : decode cX4_lays 84 = .ok (.isub, 1) := dk_100 (dk_at dksX4_lays_3 12 rfl rfl)
theorem dX4_lays_85 : decode cX4_lays 85 = .ok (.istore 6, 2) := dk_54 6 (dk_at dksX4_lays_3 13 rfl rfl)
theorem dX4_lays_87 : decode cX4_lays 87 = .ok (.iinc 7 1, 3) := dk_132 7 1 (dk_at dksX4_lays_3 15 rfl rfl)
theorem dX4_lays_90 : decode cX4_lays 90 = .ok (.goto (-40), 3) := dk_167 255 216 (dk_at dksX4_lays_3 18 rfl rfl)
theorem dX4_lays_93 : decode cX4_lays 93 = .ok (.aload_n 1, 1) := dk_43 (dk_at dksX4_lays_3 21 rfl rfl)
theorem dX4_lays_94 : decode cX4_lays 94 = .ok (.iload 5, 2) := dk_21 5 (dk_at dksX4_lays_3 22 rfl rfl)
theorem dX4_lays_96 : decode cX4_lays 96 = .ok (.iload 7, 2) := dk_21 7 (dk_at dksX4_lays_4 0 rfl rfl)
theorem dX4_lays_98 : decode cX4_lays 98 = .ok (.iastore, 1) := dk_79 (dk_at dksX4_lays_4 2 rfl rfl)
theorem dX4_lays_99 : decode cX4_lays 99 = .ok (.iload_n 2, 1) := dk_28 (dk_at dksX4_lays_4 3 rfl rfl)
theorem dX4_lays_100 : decode cX4_lays 100 = .ok (.iconst 1, 1) := dk_4 (dk_at dksX4_lays_4 4 rfl rfl)
theorem dX4_lays_101 : decode cX4_lays 101 = .ok (.iload 7, 2) := dk_21 7 (dk_at dksX4_lays_4 5 rfl rfl)
theorem dX4_lays_103 : decode cX4_lays 103 = .ok (.ishl, 1) := dk_120 (dk_at dksX4_lays_4 7 rfl rfl)
theorem dX4_lays_104 : decode cX4_lays 104 = .ok (.ior, 1) := dk_128 (dk_at dksX4_lays_4 8 rfl rfl)
theorem dX4_lays_105 : decode cX4_lays 105 = .ok (.istore_n 2, 1) := dk_61 (dk_at dksX4_lays_4 9 rfl rfl)
theorem dX4_lays_106 : decode cX4_lays 106 = .ok (.iinc 5 1, 3) := dk_132 5 1 (dk_at dksX4_lays_4 10 rfl rfl)
theorem dX4_lays_109 : decode cX4_lays 109 = .ok (.goto (-98), 3) := dk_167 255 158 (dk_at dksX4_lays_4 13 rfl rfl)
theorem dX4_lays_112 : decode cX4_lays 112 = .ok (.return_, 1) := dk_177 (dk_at dksX4_lays_4 16 rfl rfl)
def dkwX4_flag_0 : List UInt8 := [26, 153, 0, 7, 4, 167, 0, 4, 3, 172]
abbrev dktX4_flag_0 : List UInt8 := dkwX4_flag_0 ++ []
theorem dksX4_flag_0 : cX4_flag.data.toList.drop 0 = dktX4_flag_0 := by decide +kernel
theorem dX4_flag_0 : decode cX4_flag 0 = .ok (.iload_n 0, 1) := dk_26 (dk_at dksX4_flag_0 0 rfl rfl)
theorem dX4_flag_1 : decode cX4_flag 1 = .ok (.ifCond .eq 7, 3) := dk_153 0 7 (dk_at dksX4_flag_0 1 rfl rfl)
theorem dX4_flag_4 : decode cX4_flag 4 = .ok (.iconst 1, 1) := dk_4 (dk_at dksX4_flag_0 4 rfl rfl)
theorem dX4_flag_5 : decode cX4_flag 5 = .ok (.goto 4, 3) := dk_167 0 4 (dk_at dksX4_flag_0 5 rfl rfl)
theorem dX4_flag_8 : decode cX4_flag 8 = .ok (.iconst 0, 1) := dk_3 (dk_at dksX4_flag_0 8 rfl rfl)
theorem dX4_flag_9 : decode cX4_flag 9 = .ok (.ireturn, 1) := dk_172 (dk_at dksX4_flag_0 9 rfl rfl)
def dkwX4_join_10 : List UInt8 := [9, 182, 0, 107, 177]
abbrev dktX4_join_10 : List UInt8 := dkwX4_join_10 ++ []
def dkwX4_join_9 : List UInt8 := [182, 0, 107, 167, 0, 25, 42, 42, 180, 0, 48, 42, 180, 0, 45, 31, 136, 104, 22, 5, 136, 96, 46, 133]
abbrev dktX4_join_9 : List UInt8 := dkwX4_join_9 ++ dktX4_join_10
def dkwX4_join_8 : List UInt8 := [156, 0, 8, 22, 5, 167, 0, 4, 31, 22, 7, 9, 148, 156, 0, 7, 33, 167, 0, 5, 22, 7]
abbrev dktX4_join_8 : List UInt8 := dkwX4_join_8 ++ dktX4_join_9
def dkwX4_join_7 : List UInt8 := [182, 0, 140, 133, 33, 22, 7, 97, 20, 0, 144, 113, 182, 0, 107, 167, 0, 57, 42, 31, 9, 148]
abbrev dktX4_join_7 : List UInt8 := dkwX4_join_7 ++ dktX4_join_8
def dkwX4_join_6 : List UInt8 := [22, 9, 101, 33, 22, 7, 97, 22, 9, 101, 182, 0, 107, 167, 0, 82, 42, 42, 31, 136, 22, 5, 136]
abbrev dktX4_join_6 : List UInt8 := dkwX4_join_6 ++ dktX4_join_7
def dkwX4_join_5 : List UInt8 := [20, 0, 138, 113, 182, 0, 107, 167, 0, 111, 33, 22, 5, 184, 0, 126, 55, 9, 42, 31, 22, 5, 97]
abbrev dktX4_join_5 : List UInt8 := dkwX4_join_5 ++ dktX4_join_6
def dkwX4_join_4 : List UInt8 := [182, 0, 107, 167, 0, 137, 42, 31, 22, 5, 105, 20, 0, 138, 113, 22, 5, 33, 105, 22, 7, 97]
abbrev dktX4_join_4 : List UInt8 := dkwX4_join_4 ++ dktX4_join_5
def dkwX4_join_3 : List UInt8 := [22, 7, 184, 0, 132, 182, 0, 107, 167, 0, 154, 42, 31, 22, 5, 184, 0, 135, 33, 22, 7, 131]
abbrev dktX4_join_3 : List UInt8 := dkwX4_join_3 ++ dktX4_join_4
def dkwX4_join_2 : List UInt8 := [42, 31, 22, 5, 97, 33, 22, 7, 97, 182, 0, 107, 167, 0, 173, 42, 31, 22, 5, 184, 0, 126, 33]
abbrev dktX4_join_2 : List UInt8 := dkwX4_join_2 ++ dktX4_join_3
def dkwX4_join_1 : List UInt8 := [170, 0, 0, 0, 0, 0, 0, 207, 0, 0, 0, 0, 0, 0, 0, 6, 0, 0, 0, 44, 0, 0, 0, 59, 0, 0, 0, 78, 0, 0, 0, 95, 0, 0, 0, 121, 0, 0, 0, 150, 0, 0, 0, 175]
abbrev dktX4_join_1 : List UInt8 := dkwX4_join_1 ++ dktX4_join_2
def dkwX4_join_0 : List UInt8 := [42, 180, 0, 93]
abbrev dktX4_join_0 : List UInt8 := dkwX4_join_0 ++ dktX4_join_1
theorem dksX4_join_0 : cX4_join.data.toList.drop 0 = dktX4_join_0 := by decide +kernel
theorem dksX4_join_1 : cX4_join.data.toList.drop 4 = dktX4_join_1 := dk_seg dksX4_join_0 4 rfl rfl
theorem dksX4_join_2 : cX4_join.data.toList.drop 48 = dktX4_join_2 := dk_seg dksX4_join_1 44 rfl rfl
theorem dksX4_join_3 : cX4_join.data.toList.drop 71 = dktX4_join_3 := dk_seg dksX4_join_2 23 rfl rfl
theorem dksX4_join_4 : cX4_join.data.toList.drop 93 = dktX4_join_4 := dk_seg dksX4_join_3 22 rfl rfl
theorem dksX4_join_5 : cX4_join.data.toList.drop 115 = dktX4_join_5 := dk_seg dksX4_join_4 22 rfl rfl
theorem dksX4_join_6 : cX4_join.data.toList.drop 138 = dktX4_join_6 := dk_seg dksX4_join_5 23 rfl rfl
theorem dksX4_join_7 : cX4_join.data.toList.drop 161 = dktX4_join_7 := dk_seg dksX4_join_6 23 rfl rfl
theorem dksX4_join_8 : cX4_join.data.toList.drop 183 = dktX4_join_8 := dk_seg dksX4_join_7 22 rfl rfl
theorem dksX4_join_9 : cX4_join.data.toList.drop 205 = dktX4_join_9 := dk_seg dksX4_join_8 22 rfl rfl
theorem dksX4_join_10 : cX4_join.data.toList.drop 229 = dktX4_join_10 := dk_seg dksX4_join_9 24 rfl rfl
theorem dX4_join_0 : decode cX4_join 0 = .ok (.aload_n 0, 1) := dk_42 (dk_at dksX4_join_0 0 rfl rfl)
theorem dX4_join_1 : decode cX4_join 1 = .ok (.getfield 93, 3) := dk_180 0 93 (dk_at dksX4_join_0 1 rfl rfl)
theorem dX4_join_4 : decode cX4_join 4 = .ok (.tableswitch 207 0 6 #[44, 59, 78, 95, 121, 150, 175], 44) := by decide +kernel
theorem dX4_join_48 : decode cX4_join 48 = .ok (.aload_n 0, 1) := dk_42 (dk_at dksX4_join_2 0 rfl rfl)
theorem dX4_join_49 : decode cX4_join 49 = .ok (.lload_n 1, 1) := dk_31 (dk_at dksX4_join_2 1 rfl rfl)
theorem dX4_join_50 : decode cX4_join 50 = .ok (.lload 5, 2) := dk_22 5 (dk_at dksX4_join_2 2 rfl rfl)
theorem dX4_join_52 : decode cX4_join 52 = .ok (.ladd, 1) := dk_97 (dk_at dksX4_join_2 4 rfl rfl)
theorem dX4_join_53 : decode cX4_join 53 = .ok (.lload_n 3, 1) := dk_33 (dk_at dksX4_join_2 5 rfl rfl)
theorem dX4_join_54 : decode cX4_join 54 = .ok (.lload 7, 2) := dk_22 7 (dk_at dksX4_join_2 6 rfl rfl)
theorem dX4_join_56 : decode cX4_join 56 = .ok (.ladd, 1) := dk_97 (dk_at dksX4_join_2 8 rfl rfl)
theorem dX4_join_57 : decode cX4_join 57 = .ok (.invokevirtual 107, 3) := dk_182 0 107 (dk_at dksX4_join_2 9 rfl rfl)
theorem dX4_join_60 : decode cX4_join 60 = .ok (.goto 173, 3) := dk_167 0 173 (dk_at dksX4_join_2 12 rfl rfl)
theorem dX4_join_63 : decode cX4_join 63 = .ok (.aload_n 0, 1) := dk_42 (dk_at dksX4_join_2 15 rfl rfl)
theorem dX4_join_64 : decode cX4_join 64 = .ok (.lload_n 1, 1) := dk_31 (dk_at dksX4_join_2 16 rfl rfl)
theorem dX4_join_65 : decode cX4_join 65 = .ok (.lload 5, 2) := dk_22 5 (dk_at dksX4_join_2 17 rfl rfl)
theorem dX4_join_67 : decode cX4_join 67 = .ok (.invokestatic 126, 3) := dk_184 0 126 (dk_at dksX4_join_2 19 rfl rfl)
theorem dX4_join_70 : decode cX4_join 70 = .ok (.lload_n 3, 1) := dk_33 (dk_at dksX4_join_2 22 rfl rfl)
theorem dX4_join_71 : decode cX4_join 71 = .ok (.lload 7, 2) := dk_22 7 (dk_at dksX4_join_3 0 rfl rfl)
theorem dX4_join_73 : decode cX4_join 73 = .ok (.invokestatic 132, 3) := dk_184 0 132 (dk_at dksX4_join_3 2 rfl rfl)
theorem dX4_join_76 : decode cX4_join 76 = .ok (.invokevirtual 107, 3) := dk_182 0 107 (dk_at dksX4_join_3 5 rfl rfl)
theorem dX4_join_79 : decode cX4_join 79 = .ok (.goto 154, 3) := dk_167 0 154 (dk_at dksX4_join_3 8 rfl rfl)
theorem dX4_join_82 : decode cX4_join 82 = .ok (.aload_n 0, 1) := dk_42 (dk_at dksX4_join_3 11 rfl rfl)
theorem dX4_join_83 : decode cX4_join 83 = .ok (.lload_n 1, 1) := dk_31 (dk_at dksX4_join_3 12 rfl rfl)
theorem dX4_join_84 : decode cX4_join 84 = .ok (.lload 5, 2) := dk_22 5 (dk_at dksX4_join_3 13 rfl rfl)
theorem dX4_join_86 : decode cX4_join 86 = .ok (.invokestatic 135, 3) := dk_184 0 135 (dk_at dksX4_join_3 15 rfl rfl)
theorem dX4_join_89 : decode cX4_join 89 = .ok (.lload_n 3, 1) := dk_33 (dk_at dksX4_join_3 18 rfl rfl)
theorem dX4_join_90 : decode cX4_join 90 = .ok (.lload 7, 2) := dk_22 7 (dk_at dksX4_join_3 19 rfl rfl)
theorem dX4_join_92 : decode cX4_join 92 = .ok (.lxor, 1) := dk_131 (dk_at dksX4_join_3 21 rfl rfl)
theorem dX4_join_93 : decode cX4_join 93 = .ok (.invokevirtual 107, 3) := dk_182 0 107 (dk_at dksX4_join_4 0 rfl rfl)
theorem dX4_join_96 : decode cX4_join 96 = .ok (.goto 137, 3) := dk_167 0 137 (dk_at dksX4_join_4 3 rfl rfl)
theorem dX4_join_99 : decode cX4_join 99 = .ok (.aload_n 0, 1) := dk_42 (dk_at dksX4_join_4 6 rfl rfl)
theorem dX4_join_100 : decode cX4_join 100 = .ok (.lload_n 1, 1) := dk_31 (dk_at dksX4_join_4 7 rfl rfl)
theorem dX4_join_101 : decode cX4_join 101 = .ok (.lload 5, 2) := dk_22 5 (dk_at dksX4_join_4 8 rfl rfl)
theorem dX4_join_103 : decode cX4_join 103 = .ok (.lmul, 1) := dk_105 (dk_at dksX4_join_4 10 rfl rfl)
theorem dX4_join_104 : decode cX4_join 104 = .ok (.ldc2_w 138, 3) := dk_20 0 138 (dk_at dksX4_join_4 11 rfl rfl)
theorem dX4_join_107 : decode cX4_join 107 = .ok (.lrem, 1) := dk_113 (dk_at dksX4_join_4 14 rfl rfl)
theorem dX4_join_108 : decode cX4_join 108 = .ok (.lload 5, 2) := dk_22 5 (dk_at dksX4_join_4 15 rfl rfl)
theorem dX4_join_110 : decode cX4_join 110 = .ok (.lload_n 3, 1) := dk_33 (dk_at dksX4_join_4 17 rfl rfl)
theorem dX4_join_111 : decode cX4_join 111 = .ok (.lmul, 1) := dk_105 (dk_at dksX4_join_4 18 rfl rfl)
theorem dX4_join_112 : decode cX4_join 112 = .ok (.lload 7, 2) := dk_22 7 (dk_at dksX4_join_4 19 rfl rfl)
theorem dX4_join_114 : decode cX4_join 114 = .ok (.ladd, 1) := dk_97 (dk_at dksX4_join_4 21 rfl rfl)
theorem dX4_join_115 : decode cX4_join 115 = .ok (.ldc2_w 138, 3) := dk_20 0 138 (dk_at dksX4_join_5 0 rfl rfl)
theorem dX4_join_118 : decode cX4_join 118 = .ok (.lrem, 1) := dk_113 (dk_at dksX4_join_5 3 rfl rfl)
theorem dX4_join_119 : decode cX4_join 119 = .ok (.invokevirtual 107, 3) := dk_182 0 107 (dk_at dksX4_join_5 4 rfl rfl)
theorem dX4_join_122 : decode cX4_join 122 = .ok (.goto 111, 3) := dk_167 0 111 (dk_at dksX4_join_5 7 rfl rfl)
theorem dX4_join_125 : decode cX4_join 125 = .ok (.lload_n 3, 1) := dk_33 (dk_at dksX4_join_5 10 rfl rfl)
theorem dX4_join_126 : decode cX4_join 126 = .ok (.lload 5, 2) := dk_22 5 (dk_at dksX4_join_5 11 rfl rfl)
theorem dX4_join_128 : decode cX4_join 128 = .ok (.invokestatic 126, 3) := dk_184 0 126 (dk_at dksX4_join_5 13 rfl rfl)
theorem dX4_join_131 : decode cX4_join 131 = .ok (.lstore 9, 2) := dk_55 9 (dk_at dksX4_join_5 16 rfl rfl)
theorem dX4_join_133 : decode cX4_join 133 = .ok (.aload_n 0, 1) := dk_42 (dk_at dksX4_join_5 18 rfl rfl)
theorem dX4_join_134 : decode cX4_join 134 = .ok (.lload_n 1, 1) := dk_31 (dk_at dksX4_join_5 19 rfl rfl)
theorem dX4_join_135 : decode cX4_join 135 = .ok (.lload 5, 2) := dk_22 5 (dk_at dksX4_join_5 20 rfl rfl)
theorem dX4_join_137 : decode cX4_join 137 = .ok (.ladd, 1) := dk_97 (dk_at dksX4_join_5 22 rfl rfl)
theorem dX4_join_138 : decode cX4_join 138 = .ok (.lload 9, 2) := dk_22 9 (dk_at dksX4_join_6 0 rfl rfl)
theorem dX4_join_140 : decode cX4_join 140 = .ok (.lsub, 1) := dk_101 (dk_at dksX4_join_6 2 rfl rfl)
theorem dX4_join_141 : decode cX4_join 141 = .ok (.lload_n 3, 1) := dk_33 (dk_at dksX4_join_6 3 rfl rfl)
theorem dX4_join_142 : decode cX4_join 142 = .ok (.lload 7, 2) := dk_22 7 (dk_at dksX4_join_6 4 rfl rfl)
theorem dX4_join_144 : decode cX4_join 144 = .ok (.ladd, 1) := dk_97 (dk_at dksX4_join_6 6 rfl rfl)
theorem dX4_join_145 : decode cX4_join 145 = .ok (.lload 9, 2) := dk_22 9 (dk_at dksX4_join_6 7 rfl rfl)
theorem dX4_join_147 : decode cX4_join 147 = .ok (.lsub, 1) := dk_101 (dk_at dksX4_join_6 9 rfl rfl)
theorem dX4_join_148 : decode cX4_join 148 = .ok (.invokevirtual 107, 3) := dk_182 0 107 (dk_at dksX4_join_6 10 rfl rfl)
theorem dX4_join_151 : decode cX4_join 151 = .ok (.goto 82, 3) := dk_167 0 82 (dk_at dksX4_join_6 13 rfl rfl)
theorem dX4_join_154 : decode cX4_join 154 = .ok (.aload_n 0, 1) := dk_42 (dk_at dksX4_join_6 16 rfl rfl)
theorem dX4_join_155 : decode cX4_join 155 = .ok (.aload_n 0, 1) := dk_42 (dk_at dksX4_join_6 17 rfl rfl)
theorem dX4_join_156 : decode cX4_join 156 = .ok (.lload_n 1, 1) := dk_31 (dk_at dksX4_join_6 18 rfl rfl)
theorem dX4_join_157 : decode cX4_join 157 = .ok (.l2i, 1) := dk_136 (dk_at dksX4_join_6 19 rfl rfl)
theorem dX4_join_158 : decode cX4_join 158 = .ok (.lload 5, 2) := dk_22 5 (dk_at dksX4_join_6 20 rfl rfl)
theorem dX4_join_160 : decode cX4_join 160 = .ok (.l2i, 1) := dk_136 (dk_at dksX4_join_6 22 rfl rfl)
theorem dX4_join_161 : decode cX4_join 161 = .ok (.invokevirtual 140, 3) := dk_182 0 140 (dk_at dksX4_join_7 0 rfl rfl)
theorem dX4_join_164 : decode cX4_join 164 = .ok (.i2l, 1) := dk_133 (dk_at dksX4_join_7 3 rfl rfl)
theorem dX4_join_165 : decode cX4_join 165 = .ok (.lload_n 3, 1) := dk_33 (dk_at dksX4_join_7 4 rfl rfl)
theorem dX4_join_166 : decode cX4_join 166 = .ok (.lload 7, 2) := dk_22 7 (dk_at dksX4_join_7 5 rfl rfl)
theorem dX4_join_168 : decode cX4_join 168 = .ok (.ladd, 1) := dk_97 (dk_at dksX4_join_7 7 rfl rfl)
theorem dX4_join_169 : decode cX4_join 169 = .ok (.ldc2_w 144, 3) := dk_20 0 144 (dk_at dksX4_join_7 8 rfl rfl)
theorem dX4_join_172 : decode cX4_join 172 = .ok (.lrem, 1) := dk_113 (dk_at dksX4_join_7 11 rfl rfl)
theorem dX4_join_173 : decode cX4_join 173 = .ok (.invokevirtual 107, 3) := dk_182 0 107 (dk_at dksX4_join_7 12 rfl rfl)
theorem dX4_join_176 : decode cX4_join 176 = .ok (.goto 57, 3) := dk_167 0 57 (dk_at dksX4_join_7 15 rfl rfl)
theorem dX4_join_179 : decode cX4_join 179 = .ok (.aload_n 0, 1) := dk_42 (dk_at dksX4_join_7 18 rfl rfl)
theorem dX4_join_180 : decode cX4_join 180 = .ok (.lload_n 1, 1) := dk_31 (dk_at dksX4_join_7 19 rfl rfl)
theorem dX4_join_181 : decode cX4_join 181 = .ok (.lconst 0, 1) := dk_9 (dk_at dksX4_join_7 20 rfl rfl)
theorem dX4_join_182 : decode cX4_join 182 = .ok (.lcmp, 1) := dk_148 (dk_at dksX4_join_7 21 rfl rfl)
theorem dX4_join_183 : decode cX4_join 183 = .ok (.ifCond .ge 8, 3) := dk_156 0 8 (dk_at dksX4_join_8 0 rfl rfl)
theorem dX4_join_186 : decode cX4_join 186 = .ok (.lload 5, 2) := dk_22 5 (dk_at dksX4_join_8 3 rfl rfl)
theorem dX4_join_188 : decode cX4_join 188 = .ok (.goto 4, 3) := dk_167 0 4 (dk_at dksX4_join_8 5 rfl rfl)
theorem dX4_join_191 : decode cX4_join 191 = .ok (.lload_n 1, 1) := dk_31 (dk_at dksX4_join_8 8 rfl rfl)
theorem dX4_join_192 : decode cX4_join 192 = .ok (.lload 7, 2) := dk_22 7 (dk_at dksX4_join_8 9 rfl rfl)
theorem dX4_join_194 : decode cX4_join 194 = .ok (.lconst 0, 1) := dk_9 (dk_at dksX4_join_8 11 rfl rfl)
theorem dX4_join_195 : decode cX4_join 195 = .ok (.lcmp, 1) := dk_148 (dk_at dksX4_join_8 12 rfl rfl)
theorem dX4_join_196 : decode cX4_join 196 = .ok (.ifCond .ge 7, 3) := dk_156 0 7 (dk_at dksX4_join_8 13 rfl rfl)
theorem dX4_join_199 : decode cX4_join 199 = .ok (.lload_n 3, 1) := dk_33 (dk_at dksX4_join_8 16 rfl rfl)
theorem dX4_join_200 : decode cX4_join 200 = .ok (.goto 5, 3) := dk_167 0 5 (dk_at dksX4_join_8 17 rfl rfl)
theorem dX4_join_203 : decode cX4_join 203 = .ok (.lload 7, 2) := dk_22 7 (dk_at dksX4_join_8 20 rfl rfl)
theorem dX4_join_205 : decode cX4_join 205 = .ok (.invokevirtual 107, 3) := dk_182 0 107 (dk_at dksX4_join_9 0 rfl rfl)
theorem dX4_join_208 : decode cX4_join 208 = .ok (.goto 25, 3) := dk_167 0 25 (dk_at dksX4_join_9 3 rfl rfl)
theorem dX4_join_211 : decode cX4_join 211 = .ok (.aload_n 0, 1) := dk_42 (dk_at dksX4_join_9 6 rfl rfl)
theorem dX4_join_212 : decode cX4_join 212 = .ok (.aload_n 0, 1) := dk_42 (dk_at dksX4_join_9 7 rfl rfl)
theorem dX4_join_213 : decode cX4_join 213 = .ok (.getfield 48, 3) := dk_180 0 48 (dk_at dksX4_join_9 8 rfl rfl)
theorem dX4_join_216 : decode cX4_join 216 = .ok (.aload_n 0, 1) := dk_42 (dk_at dksX4_join_9 11 rfl rfl)
theorem dX4_join_217 : decode cX4_join 217 = .ok (.getfield 45, 3) := dk_180 0 45 (dk_at dksX4_join_9 12 rfl rfl)
theorem dX4_join_220 : decode cX4_join 220 = .ok (.lload_n 1, 1) := dk_31 (dk_at dksX4_join_9 15 rfl rfl)
theorem dX4_join_221 : decode cX4_join 221 = .ok (.l2i, 1) := dk_136 (dk_at dksX4_join_9 16 rfl rfl)
theorem dX4_join_222 : decode cX4_join 222 = .ok (.imul, 1) := dk_104 (dk_at dksX4_join_9 17 rfl rfl)
theorem dX4_join_223 : decode cX4_join 223 = .ok (.lload 5, 2) := dk_22 5 (dk_at dksX4_join_9 18 rfl rfl)
theorem dX4_join_225 : decode cX4_join 225 = .ok (.l2i, 1) := dk_136 (dk_at dksX4_join_9 20 rfl rfl)
theorem dX4_join_226 : decode cX4_join 226 = .ok (.iadd, 1) := dk_96 (dk_at dksX4_join_9 21 rfl rfl)
theorem dX4_join_227 : decode cX4_join 227 = .ok (.iaload, 1) := dk_46 (dk_at dksX4_join_9 22 rfl rfl)
theorem dX4_join_228 : decode cX4_join 228 = .ok (.i2l, 1) := dk_133 (dk_at dksX4_join_9 23 rfl rfl)
theorem dX4_join_229 : decode cX4_join 229 = .ok (.lconst 0, 1) := dk_9 (dk_at dksX4_join_10 0 rfl rfl)
theorem dX4_join_230 : decode cX4_join 230 = .ok (.invokevirtual 107, 3) := dk_182 0 107 (dk_at dksX4_join_10 1 rfl rfl)
theorem dX4_join_233 : decode cX4_join 233 = .ok (.return_, 1) := dk_177 (dk_at dksX4_join_10 4 rfl rfl)
def dkwX4_common_1 : List UInt8 := [22, 8, 55, 6, 167, 255, 234, 22, 4, 173]
abbrev dktX4_common_1 : List UInt8 := dkwX4_common_1 ++ []
def dkwX4_common_0 : List UInt8 := [30, 55, 4, 32, 55, 6, 22, 6, 9, 148, 153, 0, 21, 22, 4, 22, 6, 113, 55, 8, 22, 6, 55, 4]
abbrev dktX4_common_0 : List UInt8 := dkwX4_common_0 ++ dktX4_common_1
theorem dksX4_common_0 : cX4_common.data.toList.drop 0 = dktX4_common_0 := by decide +kernel
theorem dksX4_common_1 : cX4_common.data.toList.drop 24 = dktX4_common_1 := dk_seg dksX4_common_0 24 rfl rfl
theorem dX4_common_0 : decode cX4_common 0 = .ok (.lload_n 0, 1) := dk_30 (dk_at dksX4_common_0 0 rfl rfl)
theorem dX4_common_1 : decode cX4_common 1 = .ok (.lstore 4, 2) := dk_55 4 (dk_at dksX4_common_0 1 rfl rfl)
theorem dX4_common_3 : decode cX4_common 3 = .ok (.lload_n 2, 1) := dk_32 (dk_at dksX4_common_0 3 rfl rfl)
theorem dX4_common_4 : decode cX4_common 4 = .ok (.lstore 6, 2) := dk_55 6 (dk_at dksX4_common_0 4 rfl rfl)
theorem dX4_common_6 : decode cX4_common 6 = .ok (.lload 6, 2) := dk_22 6 (dk_at dksX4_common_0 6 rfl rfl)
theorem dX4_common_8 : decode cX4_common 8 = .ok (.lconst 0, 1) := dk_9 (dk_at dksX4_common_0 8 rfl rfl)
theorem dX4_common_9 : decode cX4_common 9 = .ok (.lcmp, 1) := dk_148 (dk_at dksX4_common_0 9 rfl rfl)
theorem dX4_common_10 : decode cX4_common 10 = .ok (.ifCond .eq 21, 3) := dk_153 0 21 (dk_at dksX4_common_0 10 rfl rfl)
theorem dX4_common_13 : decode cX4_common 13 = .ok (.lload 4, 2) := dk_22 4 (dk_at dksX4_common_0 13 rfl rfl)
theorem dX4_common_15 : decode cX4_common 15 = .ok (.lload 6, 2) := dk_22 6 (dk_at dksX4_common_0 15 rfl rfl)
theorem dX4_common_17 : decode cX4_common 17 = .ok (.lrem, 1) := dk_113 (dk_at dksX4_common_0 17 rfl rfl)
theorem dX4_common_18 : decode cX4_common 18 = .ok (.lstore 8, 2) := dk_55 8 (dk_at dksX4_common_0 18 rfl rfl)
theorem dX4_common_20 : decode cX4_common 20 = .ok (.lload 6, 2) := dk_22 6 (dk_at dksX4_common_0 20 rfl rfl)
theorem dX4_common_22 : decode cX4_common 22 = .ok (.lstore 4, 2) := dk_55 4 (dk_at dksX4_common_0 22 rfl rfl)
theorem dX4_common_24 : decode cX4_common 24 = .ok (.lload 8, 2) := dk_22 8 (dk_at dksX4_common_1 0 rfl rfl)
theorem dX4_common_26 : decode cX4_common 26 = .ok (.lstore 6, 2) := dk_55 6 (dk_at dksX4_common_1 2 rfl rfl)
theorem dX4_common_28 : decode cX4_common 28 = .ok (.goto (-22), 3) := dk_167 255 234 (dk_at dksX4_common_1 4 rfl rfl)
theorem dX4_common_31 : decode cX4_common 31 = .ok (.lload 4, 2) := dk_22 4 (dk_at dksX4_common_1 7 rfl rfl)
theorem dX4_common_33 : decode cX4_common 33 = .ok (.lreturn, 1) := dk_173 (dk_at dksX4_common_1 9 rfl rfl)
def dkwX4_arrangedBy_2 : List UInt8 := [180, 0, 57, 184, 0, 122, 172]
abbrev dktX4_arrangedBy_2 : List UInt8 := dkwX4_arrangedBy_2 ++ []
def dkwX4_arrangedBy_1 : List UInt8 := [180, 0, 57, 29, 42, 180, 0, 54, 42, 180, 0, 51, 29, 46, 46, 79, 132, 3, 1, 167, 255, 231, 42]
abbrev dktX4_arrangedBy_1 : List UInt8 := dkwX4_arrangedBy_1 ++ dktX4_arrangedBy_2
def dkwX4_arrangedBy_0 : List UInt8 := [27, 42, 180, 0, 51, 184, 0, 118, 28, 42, 180, 0, 54, 184, 0, 118, 3, 62, 29, 7, 162, 0, 26, 42]
abbrev dktX4_arrangedBy_0 : List UInt8 := dkwX4_arrangedBy_0 ++ dktX4_arrangedBy_1
theorem dksX4_arrangedBy_0 : cX4_arrangedBy.data.toList.drop 0 = dktX4_arrangedBy_0 := by decide +kernel
theorem dksX4_arrangedBy_1 : cX4_arrangedBy.data.toList.drop 24 = dktX4_arrangedBy_1 := dk_seg dksX4_arrangedBy_0 24 rfl rfl
theorem dksX4_arrangedBy_2 : cX4_arrangedBy.data.toList.drop 47 = dktX4_arrangedBy_2 := dk_seg dksX4_arrangedBy_1 23 rfl rfl
theorem dX4_arrangedBy_0 : decode cX4_arrangedBy 0 = .ok (.iload_n 1, 1) := dk_27 (dk_at dksX4_arrangedBy_0 0 rfl rfl)
theorem dX4_arrangedBy_1 : decode cX4_arrangedBy 1 = .ok (.aload_n 0, 1) := dk_42 (dk_at dksX4_arrangedBy_0 1 rfl rfl)
theorem dX4_arrangedBy_2 : decode cX4_arrangedBy 2 = .ok (.getfield 51, 3) := dk_180 0 51 (dk_at dksX4_arrangedBy_0 2 rfl rfl)
theorem dX4_arrangedBy_5 : decode cX4_arrangedBy 5 = .ok (.invokestatic 118, 3) := dk_184 0 118 (dk_at dksX4_arrangedBy_0 5 rfl rfl)
theorem dX4_arrangedBy_8 : decode cX4_arrangedBy 8 = .ok (.iload_n 2, 1) := dk_28 (dk_at dksX4_arrangedBy_0 8 rfl rfl)
theorem dX4_arrangedBy_9 : decode cX4_arrangedBy 9 = .ok (.aload_n 0, 1) := dk_42 (dk_at dksX4_arrangedBy_0 9 rfl rfl)
theorem dX4_arrangedBy_10 : decode cX4_arrangedBy 10 = .ok (.getfield 54, 3) := dk_180 0 54 (dk_at dksX4_arrangedBy_0 10 rfl rfl)
theorem dX4_arrangedBy_13 : decode cX4_arrangedBy 13 = .ok (.invokestatic 118, 3) := dk_184 0 118 (dk_at dksX4_arrangedBy_0 13 rfl rfl)
theorem dX4_arrangedBy_16 : decode cX4_arrangedBy 16 = .ok (.iconst 0, 1) := dk_3 (dk_at dksX4_arrangedBy_0 16 rfl rfl)
theorem dX4_arrangedBy_17 : decode cX4_arrangedBy 17 = .ok (.istore_n 3, 1) := dk_62 (dk_at dksX4_arrangedBy_0 17 rfl rfl)
theorem dX4_arrangedBy_18 : decode cX4_arrangedBy 18 = .ok (.iload_n 3, 1) := dk_29 (dk_at dksX4_arrangedBy_0 18 rfl rfl)
theorem dX4_arrangedBy_19 : decode cX4_arrangedBy 19 = .ok (.iconst 4, 1) := dk_7 (dk_at dksX4_arrangedBy_0 19 rfl rfl)
theorem dX4_arrangedBy_20 : decode cX4_arrangedBy 20 = .ok (.if_icmp .ge 26, 3) := dk_162 0 26 (dk_at dksX4_arrangedBy_0 20 rfl rfl)
theorem dX4_arrangedBy_23 : decode cX4_arrangedBy 23 = .ok (.aload_n 0, 1) := dk_42 (dk_at dksX4_arrangedBy_0 23 rfl rfl)
theorem dX4_arrangedBy_24 : decode cX4_arrangedBy 24 = .ok (.getfield 57, 3) := dk_180 0 57 (dk_at dksX4_arrangedBy_1 0 rfl rfl)
theorem dX4_arrangedBy_27 : decode cX4_arrangedBy 27 = .ok (.iload_n 3, 1) := dk_29 (dk_at dksX4_arrangedBy_1 3 rfl rfl)
theorem dX4_arrangedBy_28 : decode cX4_arrangedBy 28 = .ok (.aload_n 0, 1) := dk_42 (dk_at dksX4_arrangedBy_1 4 rfl rfl)
theorem dX4_arrangedBy_29 : decode cX4_arrangedBy 29 = .ok (.getfield 54, 3) := dk_180 0 54 (dk_at dksX4_arrangedBy_1 5 rfl rfl)
theorem dX4_arrangedBy_32 : decode cX4_arrangedBy 32 = .ok (.aload_n 0, 1) := dk_42 (dk_at dksX4_arrangedBy_1 8 rfl rfl)
theorem dX4_arrangedBy_33 : decode cX4_arrangedBy 33 = .ok (.getfield 51, 3) := dk_180 0 51 (dk_at dksX4_arrangedBy_1 9 rfl rfl)
theorem dX4_arrangedBy_36 : decode cX4_arrangedBy 36 = .ok (.iload_n 3, 1) := dk_29 (dk_at dksX4_arrangedBy_1 12 rfl rfl)
theorem dX4_arrangedBy_37 : decode cX4_arrangedBy 37 = .ok (.iaload, 1) := dk_46 (dk_at dksX4_arrangedBy_1 13 rfl rfl)
theorem dX4_arrangedBy_38 : decode cX4_arrangedBy 38 = .ok (.iaload, 1) := dk_46 (dk_at dksX4_arrangedBy_1 14 rfl rfl)
theorem dX4_arrangedBy_39 : decode cX4_arrangedBy 39 = .ok (.iastore, 1) := dk_79 (dk_at dksX4_arrangedBy_1 15 rfl rfl)
theorem dX4_arrangedBy_40 : decode cX4_arrangedBy 40 = .ok (.iinc 3 1, 3) := dk_132 3 1 (dk_at dksX4_arrangedBy_1 16 rfl rfl)
theorem dX4_arrangedBy_43 : decode cX4_arrangedBy 43 = .ok (.goto (-25), 3) := dk_167 255 231 (dk_at dksX4_arrangedBy_1 19 rfl rfl)
theorem dX4_arrangedBy_46 : decode cX4_arrangedBy 46 = .ok (.aload_n 0, 1) := dk_42 (dk_at dksX4_arrangedBy_1 22 rfl rfl)
theorem dX4_arrangedBy_47 : decode cX4_arrangedBy 47 = .ok (.getfield 57, 3) := dk_180 0 57 (dk_at dksX4_arrangedBy_2 0 rfl rfl)
theorem dX4_arrangedBy_50 : decode cX4_arrangedBy 50 = .ok (.invokestatic 122, 3) := dk_184 0 122 (dk_at dksX4_arrangedBy_2 3 rfl rfl)
theorem dX4_arrangedBy_53 : decode cX4_arrangedBy 53 = .ok (.ireturn, 1) := dk_172 (dk_at dksX4_arrangedBy_2 6 rfl rfl)
def dkwX4_numberOf_3 : List UInt8 := [108, 167, 0, 4, 4, 61, 132, 3, 1, 167, 255, 183, 27, 172]
abbrev dktX4_numberOf_3 : List UInt8 := dkwX4_numberOf_3 ++ []
def dkwX4_numberOf_2 : List UInt8 := [54, 4, 132, 5, 1, 167, 255, 224, 27, 21, 4, 28, 104, 96, 60, 29, 5, 162, 0, 11, 28, 6, 29, 100]
abbrev dktX4_numberOf_2 : List UInt8 := dkwX4_numberOf_2 ++ dktX4_numberOf_3
def dkwX4_numberOf_1 : List UInt8 := [162, 0, 32, 21, 4, 42, 21, 5, 46, 42, 29, 46, 162, 0, 7, 4, 167, 0, 4, 3, 184, 0, 31, 96]
abbrev dktX4_numberOf_1 : List UInt8 := dkwX4_numberOf_1 ++ dktX4_numberOf_2
def dkwX4_numberOf_0 : List UInt8 := [3, 60, 16, 6, 61, 3, 62, 29, 7, 162, 0, 74, 3, 54, 4, 29, 4, 96, 54, 5, 21, 5, 7]
abbrev dktX4_numberOf_0 : List UInt8 := dkwX4_numberOf_0 ++ dktX4_numberOf_1
theorem dksX4_numberOf_0 : cX4_numberOf.data.toList.drop 0 = dktX4_numberOf_0 := by decide +kernel
theorem dksX4_numberOf_1 : cX4_numberOf.data.toList.drop 23 = dktX4_numberOf_1 := dk_seg dksX4_numberOf_0 23 rfl rfl
theorem dksX4_numberOf_2 : cX4_numberOf.data.toList.drop 47 = dktX4_numberOf_2 := dk_seg dksX4_numberOf_1 24 rfl rfl
theorem dksX4_numberOf_3 : cX4_numberOf.data.toList.drop 71 = dktX4_numberOf_3 := dk_seg dksX4_numberOf_2 24 rfl rfl
theorem dX4_numberOf_0 : decode cX4_numberOf 0 = .ok (.iconst 0, 1) := dk_3 (dk_at dksX4_numberOf_0 0 rfl rfl)
theorem dX4_numberOf_1 : decode cX4_numberOf 1 = .ok (.istore_n 1, 1) := dk_60 (dk_at dksX4_numberOf_0 1 rfl rfl)
theorem dX4_numberOf_2 : decode cX4_numberOf 2 = .ok (.bipush 6, 2) := dk_16 6 (dk_at dksX4_numberOf_0 2 rfl rfl)
theorem dX4_numberOf_4 : decode cX4_numberOf 4 = .ok (.istore_n 2, 1) := dk_61 (dk_at dksX4_numberOf_0 4 rfl rfl)
theorem dX4_numberOf_5 : decode cX4_numberOf 5 = .ok (.iconst 0, 1) := dk_3 (dk_at dksX4_numberOf_0 5 rfl rfl)
theorem dX4_numberOf_6 : decode cX4_numberOf 6 = .ok (.istore_n 3, 1) := dk_62 (dk_at dksX4_numberOf_0 6 rfl rfl)
theorem dX4_numberOf_7 : decode cX4_numberOf 7 = .ok (.iload_n 3, 1) := dk_29 (dk_at dksX4_numberOf_0 7 rfl rfl)
theorem dX4_numberOf_8 : decode cX4_numberOf 8 = .ok (.iconst 4, 1) := dk_7 (dk_at dksX4_numberOf_0 8 rfl rfl)
theorem dX4_numberOf_9 : decode cX4_numberOf 9 = .ok (.if_icmp .ge 74, 3) := dk_162 0 74 (dk_at dksX4_numberOf_0 9 rfl rfl)
theorem dX4_numberOf_12 : decode cX4_numberOf 12 = .ok (.iconst 0, 1) := dk_3 (dk_at dksX4_numberOf_0 12 rfl rfl)
theorem dX4_numberOf_13 : decode cX4_numberOf 13 = .ok (.istore 4, 2) := dk_54 4 (dk_at dksX4_numberOf_0 13 rfl rfl)
theorem dX4_numberOf_15 : decode cX4_numberOf 15 = .ok (.iload_n 3, 1) := dk_29 (dk_at dksX4_numberOf_0 15 rfl rfl)
theorem dX4_numberOf_16 : decode cX4_numberOf 16 = .ok (.iconst 1, 1) := dk_4 (dk_at dksX4_numberOf_0 16 rfl rfl)
theorem dX4_numberOf_17 : decode cX4_numberOf 17 = .ok (.iadd, 1) := dk_96 (dk_at dksX4_numberOf_0 17 rfl rfl)
theorem dX4_numberOf_18 : decode cX4_numberOf 18 = .ok (.istore 5, 2) := dk_54 5 (dk_at dksX4_numberOf_0 18 rfl rfl)
theorem dX4_numberOf_20 : decode cX4_numberOf 20 = .ok (.iload 5, 2) := dk_21 5 (dk_at dksX4_numberOf_0 20 rfl rfl)
theorem dX4_numberOf_22 : decode cX4_numberOf 22 = .ok (.iconst 4, 1) := dk_7 (dk_at dksX4_numberOf_0 22 rfl rfl)
theorem dX4_numberOf_23 : decode cX4_numberOf 23 = .ok (.if_icmp .ge 32, 3) := dk_162 0 32 (dk_at dksX4_numberOf_1 0 rfl rfl)
theorem dX4_numberOf_26 : decode cX4_numberOf 26 = .ok (.iload 4, 2) := dk_21 4 (dk_at dksX4_numberOf_1 3 rfl rfl)
theorem dX4_numberOf_28 : decode cX4_numberOf 28 = .ok (.aload_n 0, 1) := dk_42 (dk_at dksX4_numberOf_1 5 rfl rfl)
theorem dX4_numberOf_29 : decode cX4_numberOf 29 = .ok (.iload 5, 2) := dk_21 5 (dk_at dksX4_numberOf_1 6 rfl rfl)
theorem dX4_numberOf_31 : decode cX4_numberOf 31 = .ok (.iaload, 1) := dk_46 (dk_at dksX4_numberOf_1 8 rfl rfl)
theorem dX4_numberOf_32 : decode cX4_numberOf 32 = .ok (.aload_n 0, 1) := dk_42 (dk_at dksX4_numberOf_1 9 rfl rfl)
theorem dX4_numberOf_33 : decode cX4_numberOf 33 = .ok (.iload_n 3, 1) := dk_29 (dk_at dksX4_numberOf_1 10 rfl rfl)
theorem dX4_numberOf_34 : decode cX4_numberOf 34 = .ok (.iaload, 1) := dk_46 (dk_at dksX4_numberOf_1 11 rfl rfl)
theorem dX4_numberOf_35 : decode cX4_numberOf 35 = .ok (.if_icmp .ge 7, 3) := dk_162 0 7 (dk_at dksX4_numberOf_1 12 rfl rfl)
theorem dX4_numberOf_38 : decode cX4_numberOf 38 = .ok (.iconst 1, 1) := dk_4 (dk_at dksX4_numberOf_1 15 rfl rfl)
theorem dX4_numberOf_39 : decode cX4_numberOf 39 = .ok (.goto 4, 3) := dk_167 0 4 (dk_at dksX4_numberOf_1 16 rfl rfl)
theorem dX4_numberOf_42 : decode cX4_numberOf 42 = .ok (.iconst 0, 1) := dk_3 (dk_at dksX4_numberOf_1 19 rfl rfl)
theorem dX4_numberOf_43 : decode cX4_numberOf 43 = .ok (.invokestatic 31, 3) := dk_184 0 31 (dk_at dksX4_numberOf_1 20 rfl rfl)
theorem dX4_numberOf_46 : decode cX4_numberOf 46 = .ok (.iadd, 1) := dk_96 (dk_at dksX4_numberOf_1 23 rfl rfl)
theorem dX4_numberOf_47 : decode cX4_numberOf 47 = .ok (.istore 4, 2) := dk_54 4 (dk_at dksX4_numberOf_2 0 rfl rfl)
theorem dX4_numberOf_49 : decode cX4_numberOf 49 = .ok (.iinc 5 1, 3) := dk_132 5 1 (dk_at dksX4_numberOf_2 2 rfl rfl)
theorem dX4_numberOf_52 : decode cX4_numberOf 52 = .ok (.goto (-32), 3) := dk_167 255 224 (dk_at dksX4_numberOf_2 5 rfl rfl)
theorem dX4_numberOf_55 : decode cX4_numberOf 55 = .ok (.iload_n 1, 1) := dk_27 (dk_at dksX4_numberOf_2 8 rfl rfl)
theorem dX4_numberOf_56 : decode cX4_numberOf 56 = .ok (.iload 4, 2) := dk_21 4 (dk_at dksX4_numberOf_2 9 rfl rfl)
theorem dX4_numberOf_58 : decode cX4_numberOf 58 = .ok (.iload_n 2, 1) := dk_28 (dk_at dksX4_numberOf_2 11 rfl rfl)
theorem dX4_numberOf_59 : decode cX4_numberOf 59 = .ok (.imul, 1) := dk_104 (dk_at dksX4_numberOf_2 12 rfl rfl)
theorem dX4_numberOf_60 : decode cX4_numberOf 60 = .ok (.iadd, 1) := dk_96 (dk_at dksX4_numberOf_2 13 rfl rfl)
theorem dX4_numberOf_61 : decode cX4_numberOf 61 = .ok (.istore_n 1, 1) := dk_60 (dk_at dksX4_numberOf_2 14 rfl rfl)
theorem dX4_numberOf_62 : decode cX4_numberOf 62 = .ok (.iload_n 3, 1) := dk_29 (dk_at dksX4_numberOf_2 15 rfl rfl)
theorem dX4_numberOf_63 : decode cX4_numberOf 63 = .ok (.iconst 2, 1) := dk_5 (dk_at dksX4_numberOf_2 16 rfl rfl)
theorem dX4_numberOf_64 : decode cX4_numberOf 64 = .ok (.if_icmp .ge 11, 3) := dk_162 0 11 (dk_at dksX4_numberOf_2 17 rfl rfl)
theorem dX4_numberOf_67 : decode cX4_numberOf 67 = .ok (.iload_n 2, 1) := dk_28 (dk_at dksX4_numberOf_2 20 rfl rfl)
theorem dX4_numberOf_68 : decode cX4_numberOf 68 = .ok (.iconst 3, 1) := dk_6 (dk_at dksX4_numberOf_2 21 rfl rfl)
theorem dX4_numberOf_69 : decode cX4_numberOf 69 = .ok (.iload_n 3, 1) := dk_29 (dk_at dksX4_numberOf_2 22 rfl rfl)
theorem dX4_numberOf_70 : decode cX4_numberOf 70 = .ok (.isub, 1) := dk_100 (dk_at dksX4_numberOf_2 23 rfl rfl)
theorem dX4_numberOf_71 : decode cX4_numberOf 71 = .ok (.idiv, 1) := dk_108 (dk_at dksX4_numberOf_3 0 rfl rfl)
theorem dX4_numberOf_72 : decode cX4_numberOf 72 = .ok (.goto 4, 3) := dk_167 0 4 (dk_at dksX4_numberOf_3 1 rfl rfl)
theorem dX4_numberOf_75 : decode cX4_numberOf 75 = .ok (.iconst 1, 1) := dk_4 (dk_at dksX4_numberOf_3 4 rfl rfl)
theorem dX4_numberOf_76 : decode cX4_numberOf 76 = .ok (.istore_n 2, 1) := dk_61 (dk_at dksX4_numberOf_3 5 rfl rfl)
theorem dX4_numberOf_77 : decode cX4_numberOf 77 = .ok (.iinc 3 1, 3) := dk_132 3 1 (dk_at dksX4_numberOf_3 6 rfl rfl)
theorem dX4_numberOf_80 : decode cX4_numberOf 80 = .ok (.goto (-73), 3) := dk_167 255 183 (dk_at dksX4_numberOf_3 9 rfl rfl)
theorem dX4_numberOf_83 : decode cX4_numberOf 83 = .ok (.iload_n 1, 1) := dk_27 (dk_at dksX4_numberOf_3 12 rfl rfl)
theorem dX4_numberOf_84 : decode cX4_numberOf 84 = .ok (.ireturn, 1) := dk_172 (dk_at dksX4_numberOf_3 13 rfl rfl)
def dkwX4_enters_0 : List UInt8 := [42, 180, 0, 7, 42, 180, 0, 11, 31, 80, 42, 89, 180, 0, 11, 4, 96, 181, 0, 11, 177]
abbrev dktX4_enters_0 : List UInt8 := dkwX4_enters_0 ++ []
theorem dksX4_enters_0 : cX4_enters.data.toList.drop 0 = dktX4_enters_0 := by decide +kernel
theorem dX4_enters_0 : decode cX4_enters 0 = .ok (.aload_n 0, 1) := dk_42 (dk_at dksX4_enters_0 0 rfl rfl)
theorem dX4_enters_1 : decode cX4_enters 1 = .ok (.getfield 7, 3) := dk_180 0 7 (dk_at dksX4_enters_0 1 rfl rfl)
theorem dX4_enters_4 : decode cX4_enters 4 = .ok (.aload_n 0, 1) := dk_42 (dk_at dksX4_enters_0 4 rfl rfl)
theorem dX4_enters_5 : decode cX4_enters 5 = .ok (.getfield 11, 3) := dk_180 0 11 (dk_at dksX4_enters_0 5 rfl rfl)
theorem dX4_enters_8 : decode cX4_enters 8 = .ok (.lload_n 1, 1) := dk_31 (dk_at dksX4_enters_0 8 rfl rfl)
theorem dX4_enters_9 : decode cX4_enters 9 = .ok (.lastore, 1) := dk_80 (dk_at dksX4_enters_0 9 rfl rfl)
theorem dX4_enters_10 : decode cX4_enters 10 = .ok (.aload_n 0, 1) := dk_42 (dk_at dksX4_enters_0 10 rfl rfl)
theorem dX4_enters_11 : decode cX4_enters 11 = .ok (.dup, 1) := dk_89 (dk_at dksX4_enters_0 11 rfl rfl)
theorem dX4_enters_12 : decode cX4_enters 12 = .ok (.getfield 11, 3) := dk_180 0 11 (dk_at dksX4_enters_0 12 rfl rfl)
theorem dX4_enters_15 : decode cX4_enters 15 = .ok (.iconst 1, 1) := dk_4 (dk_at dksX4_enters_0 15 rfl rfl)
theorem dX4_enters_16 : decode cX4_enters 16 = .ok (.iadd, 1) := dk_96 (dk_at dksX4_enters_0 16 rfl rfl)
theorem dX4_enters_17 : decode cX4_enters 17 = .ok (.putfield 11, 3) := dk_181 0 11 (dk_at dksX4_enters_0 17 rfl rfl)
theorem dX4_enters_20 : decode cX4_enters 20 = .ok (.return_, 1) := dk_177 (dk_at dksX4_enters_0 20 rfl rfl)
def dkwX4_powers_2 : List UInt8 := [180, 0, 100, 182, 0, 164, 29, 172]
abbrev dktX4_powers_2 : List UInt8 := dkwX4_powers_2 ++ []
def dkwX4_powers_1 : List UInt8 := [2, 172, 42, 27, 28, 182, 0, 171, 62, 42, 3, 181, 0, 11, 42, 42, 180, 0, 96, 182, 0, 164, 42, 42]
abbrev dktX4_powers_1 : List UInt8 := dkwX4_powers_1 ++ dktX4_powers_2
def dkwX4_powers_0 : List UInt8 := [42, 3, 181, 0, 1, 27, 184, 0, 156, 153, 0, 15, 28, 133, 9, 20, 0, 174, 184, 0, 21, 154, 0, 5]
abbrev dktX4_powers_0 : List UInt8 := dkwX4_powers_0 ++ dktX4_powers_1
theorem dksX4_powers_0 : cX4_powers.data.toList.drop 0 = dktX4_powers_0 := by decide +kernel
theorem dksX4_powers_1 : cX4_powers.data.toList.drop 24 = dktX4_powers_1 := dk_seg dksX4_powers_0 24 rfl rfl
theorem dksX4_powers_2 : cX4_powers.data.toList.drop 48 = dktX4_powers_2 := dk_seg dksX4_powers_1 24 rfl rfl
theorem dX4_powers_0 : decode cX4_powers 0 = .ok (.aload_n 0, 1) := dk_42 (dk_at dksX4_powers_0 0 rfl rfl)
theorem dX4_powers_1 : decode cX4_powers 1 = .ok (.iconst 0, 1) := dk_3 (dk_at dksX4_powers_0 1 rfl rfl)
theorem dX4_powers_2 : decode cX4_powers 2 = .ok (.putfield 1, 3) := dk_181 0 1 (dk_at dksX4_powers_0 2 rfl rfl)
theorem dX4_powers_5 : decode cX4_powers 5 = .ok (.iload_n 1, 1) := dk_27 (dk_at dksX4_powers_0 5 rfl rfl)
theorem dX4_powers_6 : decode cX4_powers 6 = .ok (.invokestatic 156, 3) := dk_184 0 156 (dk_at dksX4_powers_0 6 rfl rfl)
theorem dX4_powers_9 : decode cX4_powers 9 = .ok (.ifCond .eq 15, 3) := dk_153 0 15 (dk_at dksX4_powers_0 9 rfl rfl)
theorem dX4_powers_12 : decode cX4_powers 12 = .ok (.iload_n 2, 1) := dk_28 (dk_at dksX4_powers_0 12 rfl rfl)
theorem dX4_powers_13 : decode cX4_powers 13 = .ok (.i2l, 1) := dk_133 (dk_at dksX4_powers_0 13 rfl rfl)
theorem dX4_powers_14 : decode cX4_powers 14 = .ok (.lconst 0, 1) := dk_9 (dk_at dksX4_powers_0 14 rfl rfl)
theorem dX4_powers_15 : decode cX4_powers 15 = .ok (.ldc2_w 174, 3) := dk_20 0 174 (dk_at dksX4_powers_0 15 rfl rfl)
theorem dX4_powers_18 : decode cX4_powers 18 = .ok (.invokestatic 21, 3) := dk_184 0 21 (dk_at dksX4_powers_0 18 rfl rfl)
theorem dX4_powers_21 : decode cX4_powers 21 = .ok (.ifCond .ne 5, 3) := dk_154 0 5 (dk_at dksX4_powers_0 21 rfl rfl)
theorem dX4_powers_24 : decode cX4_powers 24 = .ok (.iconst (-1), 1) := dk_2 (dk_at dksX4_powers_1 0 rfl rfl)
theorem dX4_powers_25 : decode cX4_powers 25 = .ok (.ireturn, 1) := dk_172 (dk_at dksX4_powers_1 1 rfl rfl)
theorem dX4_powers_26 : decode cX4_powers 26 = .ok (.aload_n 0, 1) := dk_42 (dk_at dksX4_powers_1 2 rfl rfl)
theorem dX4_powers_27 : decode cX4_powers 27 = .ok (.iload_n 1, 1) := dk_27 (dk_at dksX4_powers_1 3 rfl rfl)
theorem dX4_powers_28 : decode cX4_powers 28 = .ok (.iload_n 2, 1) := dk_28 (dk_at dksX4_powers_1 4 rfl rfl)
theorem dX4_powers_29 : decode cX4_powers 29 = .ok (.invokevirtual 171, 3) := dk_182 0 171 (dk_at dksX4_powers_1 5 rfl rfl)
theorem dX4_powers_32 : decode cX4_powers 32 = .ok (.istore_n 3, 1) := dk_62 (dk_at dksX4_powers_1 8 rfl rfl)
theorem dX4_powers_33 : decode cX4_powers 33 = .ok (.aload_n 0, 1) := dk_42 (dk_at dksX4_powers_1 9 rfl rfl)
theorem dX4_powers_34 : decode cX4_powers 34 = .ok (.iconst 0, 1) := dk_3 (dk_at dksX4_powers_1 10 rfl rfl)
theorem dX4_powers_35 : decode cX4_powers 35 = .ok (.putfield 11, 3) := dk_181 0 11 (dk_at dksX4_powers_1 11 rfl rfl)
theorem dX4_powers_38 : decode cX4_powers 38 = .ok (.aload_n 0, 1) := dk_42 (dk_at dksX4_powers_1 14 rfl rfl)
theorem dX4_powers_39 : decode cX4_powers 39 = .ok (.aload_n 0, 1) := dk_42 (dk_at dksX4_powers_1 15 rfl rfl)
theorem dX4_powers_40 : decode cX4_powers 40 = .ok (.getfield 96, 3) := dk_180 0 96 (dk_at dksX4_powers_1 16 rfl rfl)
theorem dX4_powers_43 : decode cX4_powers 43 = .ok (.invokevirtual 164, 3) := dk_182 0 164 (dk_at dksX4_powers_1 19 rfl rfl)
theorem dX4_powers_46 : decode cX4_powers 46 = .ok (.aload_n 0, 1) := dk_42 (dk_at dksX4_powers_1 22 rfl rfl)
theorem dX4_powers_47 : decode cX4_powers 47 = .ok (.aload_n 0, 1) := dk_42 (dk_at dksX4_powers_1 23 rfl rfl)
theorem dX4_powers_48 : decode cX4_powers 48 = .ok (.getfield 100, 3) := dk_180 0 100 (dk_at dksX4_powers_2 0 rfl rfl)
theorem dX4_powers_51 : decode cX4_powers 51 = .ok (.invokevirtual 164, 3) := dk_182 0 164 (dk_at dksX4_powers_2 3 rfl rfl)
theorem dX4_powers_54 : decode cX4_powers 54 = .ok (.iload_n 3, 1) := dk_29 (dk_at dksX4_powers_2 6 rfl rfl)
theorem dX4_powers_55 : decode cX4_powers 55 = .ok (.ireturn, 1) := dk_172 (dk_at dksX4_powers_2 7 rfl rfl)
def dkwX4_power_4 : List UInt8 := [4, 96, 172]
abbrev dktX4_power_4 : List UInt8 := dkwX4_power_4 ++ []
def dkwX4_power_3 : List UInt8 := [55, 6, 42, 27, 182, 0, 148, 42, 22, 4, 22, 6, 42, 180, 0, 96, 42, 180, 0, 100, 182, 0, 152, 29]
abbrev dktX4_power_3 : List UInt8 := dkwX4_power_3 ++ dktX4_power_4
def dkwX4_power_2 : List UInt8 := [180, 0, 100, 182, 0, 152, 28, 5, 112, 154, 0, 5, 29, 172, 42, 180, 0, 96, 55, 4, 42, 180, 0, 100]
abbrev dktX4_power_2 : List UInt8 := dkwX4_power_2 ++ dktX4_power_3
def dkwX4_power_1 : List UInt8 := [28, 5, 108, 182, 0, 171, 4, 96, 62, 42, 42, 180, 0, 96, 42, 180, 0, 100, 42, 180, 0, 96, 42]
abbrev dktX4_power_1 : List UInt8 := dkwX4_power_1 ++ dktX4_power_2
def dkwX4_power_0 : List UInt8 := [28, 154, 0, 9, 42, 182, 0, 168, 3, 172, 28, 4, 160, 0, 10, 42, 27, 182, 0, 148, 3, 172, 42, 27]
abbrev dktX4_power_0 : List UInt8 := dkwX4_power_0 ++ dktX4_power_1
theorem dksX4_power_0 : cX4_power.data.toList.drop 0 = dktX4_power_0 := by decide +kernel
theorem dksX4_power_1 : cX4_power.data.toList.drop 24 = dktX4_power_1 := dk_seg dksX4_power_0 24 rfl rfl
theorem dksX4_power_2 : cX4_power.data.toList.drop 47 = dktX4_power_2 := dk_seg dksX4_power_1 23 rfl rfl
theorem dksX4_power_3 : cX4_power.data.toList.drop 71 = dktX4_power_3 := dk_seg dksX4_power_2 24 rfl rfl
theorem dksX4_power_4 : cX4_power.data.toList.drop 95 = dktX4_power_4 := dk_seg dksX4_power_3 24 rfl rfl
theorem dX4_power_0 : decode cX4_power 0 = .ok (.iload_n 2, 1) := dk_28 (dk_at dksX4_power_0 0 rfl rfl)
theorem dX4_power_1 : decode cX4_power 1 = .ok (.ifCond .ne 9, 3) := dk_154 0 9 (dk_at dksX4_power_0 1 rfl rfl)
theorem dX4_power_4 : decode cX4_power 4 = .ok (.aload_n 0, 1) := dk_42 (dk_at dksX4_power_0 4 rfl rfl)
theorem dX4_power_5 : decode cX4_power 5 = .ok (.invokevirtual 168, 3) := dk_182 0 168 (dk_at dksX4_power_0 5 rfl rfl)
theorem dX4_power_8 : decode cX4_power 8 = .ok (.iconst 0, 1) := dk_3 (dk_at dksX4_power_0 8 rfl rfl)
theorem dX4_power_9 : decode cX4_power 9 = .ok (.ireturn, 1) := dk_172 (dk_at dksX4_power_0 9 rfl rfl)
theorem dX4_power_10 : decode cX4_power 10 = .ok (.iload_n 2, 1) := dk_28 (dk_at dksX4_power_0 10 rfl rfl)
theorem dX4_power_11 : decode cX4_power 11 = .ok (.iconst 1, 1) := dk_4 (dk_at dksX4_power_0 11 rfl rfl)
theorem dX4_power_12 : decode cX4_power 12 = .ok (.if_icmp .ne 10, 3) := dk_160 0 10 (dk_at dksX4_power_0 12 rfl rfl)
theorem dX4_power_15 : decode cX4_power 15 = .ok (.aload_n 0, 1) := dk_42 (dk_at dksX4_power_0 15 rfl rfl)
theorem dX4_power_16 : decode cX4_power 16 = .ok (.iload_n 1, 1) := dk_27 (dk_at dksX4_power_0 16 rfl rfl)
theorem dX4_power_17 : decode cX4_power 17 = .ok (.invokevirtual 148, 3) := dk_182 0 148 (dk_at dksX4_power_0 17 rfl rfl)
theorem dX4_power_20 : decode cX4_power 20 = .ok (.iconst 0, 1) := dk_3 (dk_at dksX4_power_0 20 rfl rfl)
theorem dX4_power_21 : decode cX4_power 21 = .ok (.ireturn, 1) := dk_172 (dk_at dksX4_power_0 21 rfl rfl)
theorem dX4_power_22 : decode cX4_power 22 = .ok (.aload_n 0, 1) := dk_42 (dk_at dksX4_power_0 22 rfl rfl)
theorem dX4_power_23 : decode cX4_power 23 = .ok (.iload_n 1, 1) := dk_27 (dk_at dksX4_power_0 23 rfl rfl)
theorem dX4_power_24 : decode cX4_power 24 = .ok (.iload_n 2, 1) := dk_28 (dk_at dksX4_power_1 0 rfl rfl)
theorem dX4_power_25 : decode cX4_power 25 = .ok (.iconst 2, 1) := dk_5 (dk_at dksX4_power_1 1 rfl rfl)
theorem dX4_power_26 : decode cX4_power 26 = .ok (.idiv, 1) := dk_108 (dk_at dksX4_power_1 2 rfl rfl)
theorem dX4_power_27 : decode cX4_power 27 = .ok (.invokevirtual 171, 3) := dk_182 0 171 (dk_at dksX4_power_1 3 rfl rfl)
theorem dX4_power_30 : decode cX4_power 30 = .ok (.iconst 1, 1) := dk_4 (dk_at dksX4_power_1 6 rfl rfl)
theorem dX4_power_31 : decode cX4_power 31 = .ok (.iadd, 1) := dk_96 (dk_at dksX4_power_1 7 rfl rfl)
theorem dX4_power_32 : decode cX4_power 32 = .ok (.istore_n 3, 1) := dk_62 (dk_at dksX4_power_1 8 rfl rfl)
theorem dX4_power_33 : decode cX4_power 33 = .ok (.aload_n 0, 1) := dk_42 (dk_at dksX4_power_1 9 rfl rfl)
theorem dX4_power_34 : decode cX4_power 34 = .ok (.aload_n 0, 1) := dk_42 (dk_at dksX4_power_1 10 rfl rfl)
theorem dX4_power_35 : decode cX4_power 35 = .ok (.getfield 96, 3) := dk_180 0 96 (dk_at dksX4_power_1 11 rfl rfl)
theorem dX4_power_38 : decode cX4_power 38 = .ok (.aload_n 0, 1) := dk_42 (dk_at dksX4_power_1 14 rfl rfl)
theorem dX4_power_39 : decode cX4_power 39 = .ok (.getfield 100, 3) := dk_180 0 100 (dk_at dksX4_power_1 15 rfl rfl)
theorem dX4_power_42 : decode cX4_power 42 = .ok (.aload_n 0, 1) := dk_42 (dk_at dksX4_power_1 18 rfl rfl)
theorem dX4_power_43 : decode cX4_power 43 = .ok (.getfield 96, 3) := dk_180 0 96 (dk_at dksX4_power_1 19 rfl rfl)
theorem dX4_power_46 : decode cX4_power 46 = .ok (.aload_n 0, 1) := dk_42 (dk_at dksX4_power_1 22 rfl rfl)
theorem dX4_power_47 : decode cX4_power 47 = .ok (.getfield 100, 3) := dk_180 0 100 (dk_at dksX4_power_2 0 rfl rfl)
theorem dX4_power_50 : decode cX4_power 50 = .ok (.invokevirtual 152, 3) := dk_182 0 152 (dk_at dksX4_power_2 3 rfl rfl)
theorem dX4_power_53 : decode cX4_power 53 = .ok (.iload_n 2, 1) := dk_28 (dk_at dksX4_power_2 6 rfl rfl)
theorem dX4_power_54 : decode cX4_power 54 = .ok (.iconst 2, 1) := dk_5 (dk_at dksX4_power_2 7 rfl rfl)
theorem dX4_power_55 : decode cX4_power 55 = .ok (.irem, 1) := dk_112 (dk_at dksX4_power_2 8 rfl rfl)
theorem dX4_power_56 : decode cX4_power 56 = .ok (.ifCond .ne 5, 3) := dk_154 0 5 (dk_at dksX4_power_2 9 rfl rfl)
theorem dX4_power_59 : decode cX4_power 59 = .ok (.iload_n 3, 1) := dk_29 (dk_at dksX4_power_2 12 rfl rfl)
theorem dX4_power_60 : decode cX4_power 60 = .ok (.ireturn, 1) := dk_172 (dk_at dksX4_power_2 13 rfl rfl)
theorem dX4_power_61 : decode cX4_power 61 = .ok (.aload_n 0, 1) := dk_42 (dk_at dksX4_power_2 14 rfl rfl)
theorem dX4_power_62 : decode cX4_power 62 = .ok (.getfield 96, 3) := dk_180 0 96 (dk_at dksX4_power_2 15 rfl rfl)
theorem dX4_power_65 : decode cX4_power 65 = .ok (.lstore 4, 2) := dk_55 4 (dk_at dksX4_power_2 18 rfl rfl)
theorem dX4_power_67 : decode cX4_power 67 = .ok (.aload_n 0, 1) := dk_42 (dk_at dksX4_power_2 20 rfl rfl)
theorem dX4_power_68 : decode cX4_power 68 = .ok (.getfield 100, 3) := dk_180 0 100 (dk_at dksX4_power_2 21 rfl rfl)
theorem dX4_power_71 : decode cX4_power 71 = .ok (.lstore 6, 2) := dk_55 6 (dk_at dksX4_power_3 0 rfl rfl)
theorem dX4_power_73 : decode cX4_power 73 = .ok (.aload_n 0, 1) := dk_42 (dk_at dksX4_power_3 2 rfl rfl)
theorem dX4_power_74 : decode cX4_power 74 = .ok (.iload_n 1, 1) := dk_27 (dk_at dksX4_power_3 3 rfl rfl)
theorem dX4_power_75 : decode cX4_power 75 = .ok (.invokevirtual 148, 3) := dk_182 0 148 (dk_at dksX4_power_3 4 rfl rfl)
theorem dX4_power_78 : decode cX4_power 78 = .ok (.aload_n 0, 1) := dk_42 (dk_at dksX4_power_3 7 rfl rfl)
theorem dX4_power_79 : decode cX4_power 79 = .ok (.lload 4, 2) := dk_22 4 (dk_at dksX4_power_3 8 rfl rfl)
theorem dX4_power_81 : decode cX4_power 81 = .ok (.lload 6, 2) := dk_22 6 (dk_at dksX4_power_3 10 rfl rfl)
theorem dX4_power_83 : decode cX4_power 83 = .ok (.aload_n 0, 1) := dk_42 (dk_at dksX4_power_3 12 rfl rfl)
theorem dX4_power_84 : decode cX4_power 84 = .ok (.getfield 96, 3) := dk_180 0 96 (dk_at dksX4_power_3 13 rfl rfl)
theorem dX4_power_87 : decode cX4_power 87 = .ok (.aload_n 0, 1) := dk_42 (dk_at dksX4_power_3 16 rfl rfl)
theorem dX4_power_88 : decode cX4_power 88 = .ok (.getfield 100, 3) := dk_180 0 100 (dk_at dksX4_power_3 17 rfl rfl)
theorem dX4_power_91 : decode cX4_power 91 = .ok (.invokevirtual 152, 3) := dk_182 0 152 (dk_at dksX4_power_3 20 rfl rfl)
theorem dX4_power_94 : decode cX4_power 94 = .ok (.iload_n 3, 1) := dk_29 (dk_at dksX4_power_3 23 rfl rfl)
theorem dX4_power_95 : decode cX4_power 95 = .ok (.iconst 1, 1) := dk_4 (dk_at dksX4_power_4 0 rfl rfl)
theorem dX4_power_96 : decode cX4_power 96 = .ok (.iadd, 1) := dk_96 (dk_at dksX4_power_4 1 rfl rfl)
theorem dX4_power_97 : decode cX4_power 97 = .ok (.ireturn, 1) := dk_172 (dk_at dksX4_power_4 2 rfl rfl)
def dkwX4_empty_4 : List UInt8 := [167, 0, 9, 42, 9, 9, 182, 0, 107, 177]
abbrev dktX4_empty_4 : List UInt8 := dkwX4_empty_4 ++ []
def dkwX4_empty_3 : List UInt8 := [20, 0, 105, 20, 0, 105, 182, 0, 107, 167, 0, 22, 42, 42, 180, 0, 111, 133, 9, 182, 0, 107]
abbrev dktX4_empty_3 : List UInt8 := dkwX4_empty_3 ++ dktX4_empty_4
def dkwX4_empty_2 : List UInt8 := [42, 20, 0, 103, 20, 0, 105, 182, 0, 107, 167, 0, 44, 42, 10, 9, 182, 0, 107, 167, 0, 35, 42]
abbrev dktX4_empty_2 : List UInt8 := dkwX4_empty_2 ++ dktX4_empty_3
def dkwX4_empty_1 : List UInt8 := [170, 0, 0, 0, 0, 0, 0, 92, 0, 0, 0, 1, 0, 0, 0, 7, 0, 0, 0, 44, 0, 0, 0, 92, 0, 0, 0, 57, 0, 0, 0, 92, 0, 0, 0, 92, 0, 0, 0, 66, 0, 0, 0, 79]
abbrev dktX4_empty_1 : List UInt8 := dkwX4_empty_1 ++ dktX4_empty_2
def dkwX4_empty_0 : List UInt8 := [42, 180, 0, 93]
abbrev dktX4_empty_0 : List UInt8 := dkwX4_empty_0 ++ dktX4_empty_1
theorem dksX4_empty_0 : cX4_empty.data.toList.drop 0 = dktX4_empty_0 := by decide +kernel
theorem dksX4_empty_1 : cX4_empty.data.toList.drop 4 = dktX4_empty_1 := dk_seg dksX4_empty_0 4 rfl rfl
theorem dksX4_empty_2 : cX4_empty.data.toList.drop 48 = dktX4_empty_2 := dk_seg dksX4_empty_1 44 rfl rfl
theorem dksX4_empty_3 : cX4_empty.data.toList.drop 71 = dktX4_empty_3 := dk_seg dksX4_empty_2 23 rfl rfl
theorem dksX4_empty_4 : cX4_empty.data.toList.drop 93 = dktX4_empty_4 := dk_seg dksX4_empty_3 22 rfl rfl
theorem dX4_empty_0 : decode cX4_empty 0 = .ok (.aload_n 0, 1) := dk_42 (dk_at dksX4_empty_0 0 rfl rfl)
theorem dX4_empty_1 : decode cX4_empty 1 = .ok (.getfield 93, 3) := dk_180 0 93 (dk_at dksX4_empty_0 1 rfl rfl)
theorem dX4_empty_4 : decode cX4_empty 4 = .ok (.tableswitch 92 1 7 #[44, 92, 57, 92, 92, 66, 79], 44) := by decide +kernel
theorem dX4_empty_48 : decode cX4_empty 48 = .ok (.aload_n 0, 1) := dk_42 (dk_at dksX4_empty_2 0 rfl rfl)
theorem dX4_empty_49 : decode cX4_empty 49 = .ok (.ldc2_w 103, 3) := dk_20 0 103 (dk_at dksX4_empty_2 1 rfl rfl)
theorem dX4_empty_52 : decode cX4_empty 52 = .ok (.ldc2_w 105, 3) := dk_20 0 105 (dk_at dksX4_empty_2 4 rfl rfl)
theorem dX4_empty_55 : decode cX4_empty 55 = .ok (.invokevirtual 107, 3) := dk_182 0 107 (dk_at dksX4_empty_2 7 rfl rfl)
theorem dX4_empty_58 : decode cX4_empty 58 = .ok (.goto 44, 3) := dk_167 0 44 (dk_at dksX4_empty_2 10 rfl rfl)
theorem dX4_empty_61 : decode cX4_empty 61 = .ok (.aload_n 0, 1) := dk_42 (dk_at dksX4_empty_2 13 rfl rfl)
theorem dX4_empty_62 : decode cX4_empty 62 = .ok (.lconst 1, 1) := dk_10 (dk_at dksX4_empty_2 14 rfl rfl)
theorem dX4_empty_63 : decode cX4_empty 63 = .ok (.lconst 0, 1) := dk_9 (dk_at dksX4_empty_2 15 rfl rfl)
theorem dX4_empty_64 : decode cX4_empty 64 = .ok (.invokevirtual 107, 3) := dk_182 0 107 (dk_at dksX4_empty_2 16 rfl rfl)
theorem dX4_empty_67 : decode cX4_empty 67 = .ok (.goto 35, 3) := dk_167 0 35 (dk_at dksX4_empty_2 19 rfl rfl)
theorem dX4_empty_70 : decode cX4_empty 70 = .ok (.aload_n 0, 1) := dk_42 (dk_at dksX4_empty_2 22 rfl rfl)
theorem dX4_empty_71 : decode cX4_empty 71 = .ok (.ldc2_w 105, 3) := dk_20 0 105 (dk_at dksX4_empty_3 0 rfl rfl)
theorem dX4_empty_74 : decode cX4_empty 74 = .ok (.ldc2_w 105, 3) := dk_20 0 105 (dk_at dksX4_empty_3 3 rfl rfl)
theorem dX4_empty_77 : decode cX4_empty 77 = .ok (.invokevirtual 107, 3) := dk_182 0 107 (dk_at dksX4_empty_3 6 rfl rfl)
theorem dX4_empty_80 : decode cX4_empty 80 = .ok (.goto 22, 3) := dk_167 0 22 (dk_at dksX4_empty_3 9 rfl rfl)
theorem dX4_empty_83 : decode cX4_empty 83 = .ok (.aload_n 0, 1) := dk_42 (dk_at dksX4_empty_3 12 rfl rfl)
theorem dX4_empty_84 : decode cX4_empty 84 = .ok (.aload_n 0, 1) := dk_42 (dk_at dksX4_empty_3 13 rfl rfl)
theorem dX4_empty_85 : decode cX4_empty 85 = .ok (.getfield 111, 3) := dk_180 0 111 (dk_at dksX4_empty_3 14 rfl rfl)
theorem dX4_empty_88 : decode cX4_empty 88 = .ok (.i2l, 1) := dk_133 (dk_at dksX4_empty_3 17 rfl rfl)
theorem dX4_empty_89 : decode cX4_empty 89 = .ok (.lconst 0, 1) := dk_9 (dk_at dksX4_empty_3 18 rfl rfl)
theorem dX4_empty_90 : decode cX4_empty 90 = .ok (.invokevirtual 107, 3) := dk_182 0 107 (dk_at dksX4_empty_3 19 rfl rfl)
theorem dX4_empty_93 : decode cX4_empty 93 = .ok (.goto 9, 3) := dk_167 0 9 (dk_at dksX4_empty_4 0 rfl rfl)
theorem dX4_empty_96 : decode cX4_empty 96 = .ok (.aload_n 0, 1) := dk_42 (dk_at dksX4_empty_4 3 rfl rfl)
theorem dX4_empty_97 : decode cX4_empty 97 = .ok (.lconst 0, 1) := dk_9 (dk_at dksX4_empty_4 4 rfl rfl)
theorem dX4_empty_98 : decode cX4_empty 98 = .ok (.lconst 0, 1) := dk_9 (dk_at dksX4_empty_4 5 rfl rfl)
theorem dX4_empty_99 : decode cX4_empty 99 = .ok (.invokevirtual 107, 3) := dk_182 0 107 (dk_at dksX4_empty_4 6 rfl rfl)
theorem dX4_empty_102 : decode cX4_empty 102 = .ok (.return_, 1) := dk_177 (dk_at dksX4_empty_4 9 rfl rfl)
def dkwX4_order_7 : List UInt8 := [167, 255, 137, 16, 254, 172]
abbrev dktX4_order_7 : List UInt8 := dkwX4_order_7 ++ []
def dkwX4_order_6 : List UInt8 := [3, 181, 0, 11, 42, 21, 7, 133, 182, 0, 164, 21, 6, 172, 132, 7, 1, 167, 255, 201, 132, 6, 1]
abbrev dktX4_order_6 : List UInt8 := dkwX4_order_6 ++ dktX4_order_7
def dkwX4_order_5 : List UInt8 := [42, 180, 0, 96, 148, 154, 0, 33, 42, 180, 0, 63, 21, 7, 47, 42, 180, 0, 100, 148, 154, 0, 18, 42]
abbrev dktX4_order_5 : List UInt8 := dkwX4_order_5 ++ dktX4_order_6
def dkwX4_order_4 : List UInt8 := [21, 6, 42, 180, 0, 100, 80, 4, 54, 7, 21, 7, 21, 6, 162, 0, 54, 42, 180, 0, 60, 21, 7, 47]
abbrev dktX4_order_4 : List UInt8 := dkwX4_order_4 ++ dktX4_order_5
def dkwX4_order_3 : List UInt8 := [4, 100, 47, 32, 22, 4, 182, 0, 152, 42, 180, 0, 60, 21, 6, 42, 180, 0, 96, 80, 42, 180, 0, 63]
abbrev dktX4_order_3 : List UInt8 := dkwX4_order_3 ++ dktX4_order_4
def dkwX4_order_2 : List UInt8 := [21, 6, 17, 0, 128, 163, 0, 117, 42, 42, 180, 0, 60, 21, 6, 4, 100, 47, 42, 180, 0, 63, 21, 6]
abbrev dktX4_order_2 : List UInt8 := dkwX4_order_2 ++ dktX4_order_3
def dkwX4_order_1 : List UInt8 := [42, 180, 0, 100, 55, 4, 42, 180, 0, 60, 4, 32, 80, 42, 180, 0, 63, 4, 22, 4, 80, 5, 54, 6]
abbrev dktX4_order_1 : List UInt8 := dkwX4_order_1 ++ dktX4_order_2
def dkwX4_order_0 : List UInt8 := [42, 3, 181, 0, 1, 27, 184, 0, 156, 154, 0, 5, 2, 172, 42, 27, 182, 0, 148, 42, 180, 0, 96, 65]
abbrev dktX4_order_0 : List UInt8 := dkwX4_order_0 ++ dktX4_order_1
theorem dksX4_order_0 : cX4_order.data.toList.drop 0 = dktX4_order_0 := by decide +kernel
theorem dksX4_order_1 : cX4_order.data.toList.drop 24 = dktX4_order_1 := dk_seg dksX4_order_0 24 rfl rfl
theorem dksX4_order_2 : cX4_order.data.toList.drop 48 = dktX4_order_2 := dk_seg dksX4_order_1 24 rfl rfl
theorem dksX4_order_3 : cX4_order.data.toList.drop 72 = dktX4_order_3 := dk_seg dksX4_order_2 24 rfl rfl
theorem dksX4_order_4 : cX4_order.data.toList.drop 96 = dktX4_order_4 := dk_seg dksX4_order_3 24 rfl rfl
theorem dksX4_order_5 : cX4_order.data.toList.drop 120 = dktX4_order_5 := dk_seg dksX4_order_4 24 rfl rfl
theorem dksX4_order_6 : cX4_order.data.toList.drop 144 = dktX4_order_6 := dk_seg dksX4_order_5 24 rfl rfl
theorem dksX4_order_7 : cX4_order.data.toList.drop 167 = dktX4_order_7 := dk_seg dksX4_order_6 23 rfl rfl
theorem dX4_order_0 : decode cX4_order 0 = .ok (.aload_n 0, 1) := dk_42 (dk_at dksX4_order_0 0 rfl rfl)
theorem dX4_order_1 : decode cX4_order 1 = .ok (.iconst 0, 1) := dk_3 (dk_at dksX4_order_0 1 rfl rfl)
theorem dX4_order_2 : decode cX4_order 2 = .ok (.putfield 1, 3) := dk_181 0 1 (dk_at dksX4_order_0 2 rfl rfl)
theorem dX4_order_5 : decode cX4_order 5 = .ok (.iload_n 1, 1) := dk_27 (dk_at dksX4_order_0 5 rfl rfl)
theorem dX4_order_6 : decode cX4_order 6 = .ok (.invokestatic 156, 3) := dk_184 0 156 (dk_at dksX4_order_0 6 rfl rfl)
theorem dX4_order_9 : decode cX4_order 9 = .ok (.ifCond .ne 5, 3) := dk_154 0 5 (dk_at dksX4_order_0 9 rfl rfl)
theorem dX4_order_12 : decode cX4_order 12 = .ok (.iconst (-1), 1) := dk_2 (dk_at dksX4_order_0 12 rfl rfl)
theorem dX4_order_13 : decode cX4_order 13 = .ok (.ireturn, 1) := dk_172 (dk_at dksX4_order_0 13 rfl rfl)
theorem dX4_order_14 : decode cX4_order 14 = .ok (.aload_n 0, 1) := dk_42 (dk_at dksX4_order_0 14 rfl rfl)
theorem dX4_order_15 : decode cX4_order 15 = .ok (.iload_n 1, 1) := dk_27 (dk_at dksX4_order_0 15 rfl rfl)
theorem dX4_order_16 : decode cX4_order 16 = .ok (.invokevirtual 148, 3) := dk_182 0 148 (dk_at dksX4_order_0 16 rfl rfl)
theorem dX4_order_19 : decode cX4_order 19 = .ok (.aload_n 0, 1) := dk_42 (dk_at dksX4_order_0 19 rfl rfl)
theorem dX4_order_20 : decode cX4_order 20 = .ok (.getfield 96, 3) := dk_180 0 96 (dk_at dksX4_order_0 20 rfl rfl)
theorem dX4_order_23 : decode cX4_order 23 = .ok (.lstore_n 2, 1) := dk_65 (dk_at dksX4_order_0 23 rfl rfl)
theorem dX4_order_24 : decode cX4_order 24 = .ok (.aload_n 0, 1) := dk_42 (dk_at dksX4_order_1 0 rfl rfl)
theorem dX4_order_25 : decode cX4_order 25 = .ok (.getfield 100, 3) := dk_180 0 100 (dk_at dksX4_order_1 1 rfl rfl)
theorem dX4_order_28 : decode cX4_order 28 = .ok (.lstore 4, 2) := dk_55 4 (dk_at dksX4_order_1 4 rfl rfl)
theorem dX4_order_30 : decode cX4_order 30 = .ok (.aload_n 0, 1) := dk_42 (dk_at dksX4_order_1 6 rfl rfl)
theorem dX4_order_31 : decode cX4_order 31 = .ok (.getfield 60, 3) := dk_180 0 60 (dk_at dksX4_order_1 7 rfl rfl)
theorem dX4_order_34 : decode cX4_order 34 = .ok (.iconst 1, 1) := dk_4 (dk_at dksX4_order_1 10 rfl rfl)
theorem dX4_order_35 : decode cX4_order 35 = .ok (.lload_n 2, 1) := dk_32 (dk_at dksX4_order_1 11 rfl rfl)
theorem dX4_order_36 : decode cX4_order 36 = .ok (.lastore, 1) := dk_80 (dk_at dksX4_order_1 12 rfl rfl)
theorem dX4_order_37 : decode cX4_order 37 = .ok (.aload_n 0, 1) := dk_42 (dk_at dksX4_order_1 13 rfl rfl)
theorem dX4_order_38 : decode cX4_order 38 = .ok (.getfield 63, 3) := dk_180 0 63 (dk_at dksX4_order_1 14 rfl rfl)
theorem dX4_order_41 : decode cX4_order 41 = .ok (.iconst 1, 1) := dk_4 (dk_at dksX4_order_1 17 rfl rfl)
theorem dX4_order_42 : decode cX4_order 42 = .ok (.lload 4, 2) := dk_22 4 (dk_at dksX4_order_1 18 rfl rfl)
theorem dX4_order_44 : decode cX4_order 44 = .ok (.lastore, 1) := dk_80 (dk_at dksX4_order_1 20 rfl rfl)
theorem dX4_order_45 : decode cX4_order 45 = .ok (.iconst 2, 1) := dk_5 (dk_at dksX4_order_1 21 rfl rfl)
theorem dX4_order_46 : decode cX4_order 46 = .ok (.istore 6, 2) := dk_54 6 (dk_at dksX4_order_1 22 rfl rfl)
theorem dX4_order_48 : decode cX4_order 48 = .ok (.iload 6, 2) := dk_21 6 (dk_at dksX4_order_2 0 rfl rfl)
theorem dX4_order_50 : decode cX4_order 50 = .ok (.sipush 128, 3) := dk_17 0 128 (dk_at dksX4_order_2 2 rfl rfl)
theorem dX4_order_53 : decode cX4_order 53 = .ok (.if_icmp .gt 117, 3) := dk_163 0 117 (dk_at dksX4_order_2 5 rfl rfl)
theorem dX4_order_56 : decode cX4_order 56 = .ok (.aload_n 0, 1) := dk_42 (dk_at dksX4_order_2 8 rfl rfl)
theorem dX4_order_57 : decode cX4_order 57 = .ok (.aload_n 0, 1) := dk_42 (dk_at dksX4_order_2 9 rfl rfl)
theorem dX4_order_58 : decode cX4_order 58 = .ok (.getfield 60, 3) := dk_180 0 60 (dk_at dksX4_order_2 10 rfl rfl)
theorem dX4_order_61 : decode cX4_order 61 = .ok (.iload 6, 2) := dk_21 6 (dk_at dksX4_order_2 13 rfl rfl)
theorem dX4_order_63 : decode cX4_order 63 = .ok (.iconst 1, 1) := dk_4 (dk_at dksX4_order_2 15 rfl rfl)
theorem dX4_order_64 : decode cX4_order 64 = .ok (.isub, 1) := dk_100 (dk_at dksX4_order_2 16 rfl rfl)
theorem dX4_order_65 : decode cX4_order 65 = .ok (.laload, 1) := dk_47 (dk_at dksX4_order_2 17 rfl rfl)
theorem dX4_order_66 : decode cX4_order 66 = .ok (.aload_n 0, 1) := dk_42 (dk_at dksX4_order_2 18 rfl rfl)
theorem dX4_order_67 : decode cX4_order 67 = .ok (.getfield 63, 3) := dk_180 0 63 (dk_at dksX4_order_2 19 rfl rfl)
theorem dX4_order_70 : decode cX4_order 70 = .ok (.iload 6, 2) := dk_21 6 (dk_at dksX4_order_2 22 rfl rfl)
theorem dX4_order_72 : decode cX4_order 72 = .ok (.iconst 1, 1) := dk_4 (dk_at dksX4_order_3 0 rfl rfl)
theorem dX4_order_73 : decode cX4_order 73 = .ok (.isub, 1) := dk_100 (dk_at dksX4_order_3 1 rfl rfl)
theorem dX4_order_74 : decode cX4_order 74 = .ok (.laload, 1) := dk_47 (dk_at dksX4_order_3 2 rfl rfl)
theorem dX4_order_75 : decode cX4_order 75 = .ok (.lload_n 2, 1) := dk_32 (dk_at dksX4_order_3 3 rfl rfl)
theorem dX4_order_76 : decode cX4_order 76 = .ok (.lload 4, 2) := dk_22 4 (dk_at dksX4_order_3 4 rfl rfl)
theorem dX4_order_78 : decode cX4_order 78 = .ok (.invokevirtual 152, 3) := dk_182 0 152 (dk_at dksX4_order_3 6 rfl rfl)
theorem dX4_order_81 : decode cX4_order 81 = .ok (.aload_n 0, 1) := dk_42 (dk_at dksX4_order_3 9 rfl rfl)
theorem dX4_order_82 : decode cX4_order 82 = .ok (.getfield 60, 3) := dk_180 0 60 (dk_at dksX4_order_3 10 rfl rfl)
theorem dX4_order_85 : decode cX4_order 85 = .ok (.iload 6, 2) := dk_21 6 (dk_at dksX4_order_3 13 rfl rfl)
theorem dX4_order_87 : decode cX4_order 87 = .ok (.aload_n 0, 1) := dk_42 (dk_at dksX4_order_3 15 rfl rfl)
theorem dX4_order_88 : decode cX4_order 88 = .ok (.getfield 96, 3) := dk_180 0 96 (dk_at dksX4_order_3 16 rfl rfl)
theorem dX4_order_91 : decode cX4_order 91 = .ok (.lastore, 1) := dk_80 (dk_at dksX4_order_3 19 rfl rfl)
theorem dX4_order_92 : decode cX4_order 92 = .ok (.aload_n 0, 1) := dk_42 (dk_at dksX4_order_3 20 rfl rfl)
theorem dX4_order_93 : decode cX4_order 93 = .ok (.getfield 63, 3) := dk_180 0 63 (dk_at dksX4_order_3 21 rfl rfl)
theorem dX4_order_96 : decode cX4_order 96 = .ok (.iload 6, 2) := dk_21 6 (dk_at dksX4_order_4 0 rfl rfl)
theorem dX4_order_98 : decode cX4_order 98 = .ok (.aload_n 0, 1) := dk_42 (dk_at dksX4_order_4 2 rfl rfl)
theorem dX4_order_99 : decode cX4_order 99 = .ok (.getfield 100, 3) := dk_180 0 100 (dk_at dksX4_order_4 3 rfl rfl)
theorem dX4_order_102 : decode cX4_order 102 = .ok (.lastore, 1) := dk_80 (dk_at dksX4_order_4 6 rfl rfl)
theorem dX4_order_103 : decode cX4_order 103 = .ok (.iconst 1, 1) := dk_4 (dk_at dksX4_order_4 7 rfl rfl)
theorem dX4_order_104 : decode cX4_order 104 = .ok (.istore 7, 2) := dk_54 7 (dk_at dksX4_order_4 8 rfl rfl)
theorem dX4_order_106 : decode cX4_order 106 = .ok (.iload 7, 2) := dk_21 7 (dk_at dksX4_order_4 10 rfl rfl)
theorem dX4_order_108 : decode cX4_order 108 = .ok (.iload 6, 2) := dk_21 6 (dk_at dksX4_order_4 12 rfl rfl)
theorem dX4_order_110 : decode cX4_order 110 = .ok (.if_icmp .ge 54, 3) := dk_162 0 54 (dk_at dksX4_order_4 14 rfl rfl)
theorem dX4_order_113 : decode cX4_order 113 = .ok (.aload_n 0, 1) := dk_42 (dk_at dksX4_order_4 17 rfl rfl)
theorem dX4_order_114 : decode cX4_order 114 = .ok (.getfield 60, 3) := dk_180 0 60 (dk_at dksX4_order_4 18 rfl rfl)
theorem dX4_order_117 : decode cX4_order 117 = .ok (.iload 7, 2) := dk_21 7 (dk_at dksX4_order_4 21 rfl rfl)
theorem dX4_order_119 : decode cX4_order 119 = .ok (.laload, 1) := dk_47 (dk_at dksX4_order_4 23 rfl rfl)
theorem dX4_order_120 : decode cX4_order 120 = .ok (.aload_n 0, 1) := dk_42 (dk_at dksX4_order_5 0 rfl rfl)
theorem dX4_order_121 : decode cX4_order 121 = .ok (.getfield 96, 3) := dk_180 0 96 (dk_at dksX4_order_5 1 rfl rfl)
theorem dX4_order_124 : decode cX4_order 124 = .ok (.lcmp, 1) := dk_148 (dk_at dksX4_order_5 4 rfl rfl)
theorem dX4_order_125 : decode cX4_order 125 = .ok (.ifCond .ne 33, 3) := dk_154 0 33 (dk_at dksX4_order_5 5 rfl rfl)
theorem dX4_order_128 : decode cX4_order 128 = .ok (.aload_n 0, 1) := dk_42 (dk_at dksX4_order_5 8 rfl rfl)
theorem dX4_order_129 : decode cX4_order 129 = .ok (.getfield 63, 3) := dk_180 0 63 (dk_at dksX4_order_5 9 rfl rfl)
theorem dX4_order_132 : decode cX4_order 132 = .ok (.iload 7, 2) := dk_21 7 (dk_at dksX4_order_5 12 rfl rfl)
theorem dX4_order_134 : decode cX4_order 134 = .ok (.laload, 1) := dk_47 (dk_at dksX4_order_5 14 rfl rfl)
theorem dX4_order_135 : decode cX4_order 135 = .ok (.aload_n 0, 1) := dk_42 (dk_at dksX4_order_5 15 rfl rfl)
theorem dX4_order_136 : decode cX4_order 136 = .ok (.getfield 100, 3) := dk_180 0 100 (dk_at dksX4_order_5 16 rfl rfl)
theorem dX4_order_139 : decode cX4_order 139 = .ok (.lcmp, 1) := dk_148 (dk_at dksX4_order_5 19 rfl rfl)
theorem dX4_order_140 : decode cX4_order 140 = .ok (.ifCond .ne 18, 3) := dk_154 0 18 (dk_at dksX4_order_5 20 rfl rfl)
theorem dX4_order_143 : decode cX4_order 143 = .ok (.aload_n 0, 1) := dk_42 (dk_at dksX4_order_5 23 rfl rfl)
theorem dX4_order_144 : decode cX4_order 144 = .ok (.iconst 0, 1) := dk_3 (dk_at dksX4_order_6 0 rfl rfl)
theorem dX4_order_145 : decode cX4_order 145 = .ok (.putfield 11, 3) := dk_181 0 11 (dk_at dksX4_order_6 1 rfl rfl)
theorem dX4_order_148 : decode cX4_order 148 = .ok (.aload_n 0, 1) := dk_42 (dk_at dksX4_order_6 4 rfl rfl)
theorem dX4_order_149 : decode cX4_order 149 = .ok (.iload 7, 2) := dk_21 7 (dk_at dksX4_order_6 5 rfl rfl)
theorem dX4_order_151 : decode cX4_order 151 = .ok (.i2l, 1) := dk_133 (dk_at dksX4_order_6 7 rfl rfl)
theorem dX4_order_152 : decode cX4_order 152 = .ok (.invokevirtual 164, 3) := dk_182 0 164 (dk_at dksX4_order_6 8 rfl rfl)
theorem dX4_order_155 : decode cX4_order 155 = .ok (.iload 6, 2) := dk_21 6 (dk_at dksX4_order_6 11 rfl rfl)
theorem dX4_order_157 : decode cX4_order 157 = .ok (.ireturn, 1) := dk_172 (dk_at dksX4_order_6 13 rfl rfl)
theorem dX4_order_158 : decode cX4_order 158 = .ok (.iinc 7 1, 3) := dk_132 7 1 (dk_at dksX4_order_6 14 rfl rfl)
theorem dX4_order_161 : decode cX4_order 161 = .ok (.goto (-55), 3) := dk_167 255 201 (dk_at dksX4_order_6 17 rfl rfl)
theorem dX4_order_164 : decode cX4_order 164 = .ok (.iinc 6 1, 3) := dk_132 6 1 (dk_at dksX4_order_6 20 rfl rfl)
theorem dX4_order_167 : decode cX4_order 167 = .ok (.goto (-119), 3) := dk_167 255 137 (dk_at dksX4_order_7 0 rfl rfl)
theorem dX4_order_170 : decode cX4_order 170 = .ok (.bipush (-2), 2) := dk_16 254 (dk_at dksX4_order_7 3 rfl rfl)
theorem dX4_order_172 : decode cX4_order 172 = .ok (.ireturn, 1) := dk_172 (dk_at dksX4_order_7 5 rfl rfl)
def dkwX4_undoes_5 : List UInt8 := [132, 6, 1, 167, 255, 166, 16, 254, 172]
abbrev dktX4_undoes_5 : List UInt8 := dkwX4_undoes_5 ++ []
def dkwX4_undoes_4 : List UInt8 := [180, 0, 100, 22, 4, 148, 154, 0, 7, 4, 167, 0, 4, 3, 54, 7, 21, 7, 153, 0, 6, 21, 6, 172]
abbrev dktX4_undoes_4 : List UInt8 := dkwX4_undoes_4 ++ dktX4_undoes_5
def dkwX4_undoes_3 : List UInt8 := [54, 7, 21, 7, 153, 0, 36, 42, 21, 6, 27, 182, 0, 160, 42, 180, 0, 96, 32, 148, 154, 0, 17, 42]
abbrev dktX4_undoes_3 : List UInt8 := dkwX4_undoes_3 ++ dktX4_undoes_4
def dkwX4_undoes_2 : List UInt8 := [180, 0, 96, 32, 148, 154, 0, 17, 42, 180, 0, 100, 22, 4, 148, 154, 0, 7, 4, 167, 0, 4, 3]
abbrev dktX4_undoes_2 : List UInt8 := dkwX4_undoes_2 ++ dktX4_undoes_3
def dkwX4_undoes_1 : List UInt8 := [180, 0, 100, 55, 4, 3, 54, 6, 21, 6, 17, 39, 15, 163, 0, 88, 42, 27, 21, 6, 182, 0, 160, 42]
abbrev dktX4_undoes_1 : List UInt8 := dkwX4_undoes_1 ++ dktX4_undoes_2
def dkwX4_undoes_0 : List UInt8 := [42, 3, 181, 0, 1, 27, 184, 0, 156, 154, 0, 5, 2, 172, 42, 182, 0, 168, 42, 180, 0, 96, 65, 42]
abbrev dktX4_undoes_0 : List UInt8 := dkwX4_undoes_0 ++ dktX4_undoes_1
theorem dksX4_undoes_0 : cX4_undoes.data.toList.drop 0 = dktX4_undoes_0 := by decide +kernel
theorem dksX4_undoes_1 : cX4_undoes.data.toList.drop 24 = dktX4_undoes_1 := dk_seg dksX4_undoes_0 24 rfl rfl
theorem dksX4_undoes_2 : cX4_undoes.data.toList.drop 48 = dktX4_undoes_2 := dk_seg dksX4_undoes_1 24 rfl rfl
theorem dksX4_undoes_3 : cX4_undoes.data.toList.drop 71 = dktX4_undoes_3 := dk_seg dksX4_undoes_2 23 rfl rfl
theorem dksX4_undoes_4 : cX4_undoes.data.toList.drop 95 = dktX4_undoes_4 := dk_seg dksX4_undoes_3 24 rfl rfl
theorem dksX4_undoes_5 : cX4_undoes.data.toList.drop 119 = dktX4_undoes_5 := dk_seg dksX4_undoes_4 24 rfl rfl
theorem dX4_undoes_0 : decode cX4_undoes 0 = .ok (.aload_n 0, 1) := dk_42 (dk_at dksX4_undoes_0 0 rfl rfl)
theorem dX4_undoes_1 : decode cX4_undoes 1 = .ok (.iconst 0, 1) := dk_3 (dk_at dksX4_undoes_0 1 rfl rfl)
theorem dX4_undoes_2 : decode cX4_undoes 2 = .ok (.putfield 1, 3) := dk_181 0 1 (dk_at dksX4_undoes_0 2 rfl rfl)
theorem dX4_undoes_5 : decode cX4_undoes 5 = .ok (.iload_n 1, 1) := dk_27 (dk_at dksX4_undoes_0 5 rfl rfl)
theorem dX4_undoes_6 : decode cX4_undoes 6 = .ok (.invokestatic 156, 3) := dk_184 0 156 (dk_at dksX4_undoes_0 6 rfl rfl)
theorem dX4_undoes_9 : decode cX4_undoes 9 = .ok (.ifCond .ne 5, 3) := dk_154 0 5 (dk_at dksX4_undoes_0 9 rfl rfl)
theorem dX4_undoes_12 : decode cX4_undoes 12 = .ok (.iconst (-1), 1) := dk_2 (dk_at dksX4_undoes_0 12 rfl rfl)
theorem dX4_undoes_13 : decode cX4_undoes 13 = .ok (.ireturn, 1) := dk_172 (dk_at dksX4_undoes_0 13 rfl rfl)
theorem dX4_undoes_14 : decode cX4_undoes 14 = .ok (.aload_n 0, 1) := dk_42 (dk_at dksX4_undoes_0 14 rfl rfl)
theorem dX4_undoes_15 : decode cX4_undoes 15 = .ok (.invokevirtual 168, 3) := dk_182 0 168 (dk_at dksX4_undoes_0 15 rfl rfl)
theorem dX4_undoes_18 : decode cX4_undoes 18 = .ok (.aload_n 0, 1) := dk_42 (dk_at dksX4_undoes_0 18 rfl rfl)
theorem dX4_undoes_19 : decode cX4_undoes 19 = .ok (.getfield 96, 3) := dk_180 0 96 (dk_at dksX4_undoes_0 19 rfl rfl)
theorem dX4_undoes_22 : decode cX4_undoes 22 = .ok (.lstore_n 2, 1) := dk_65 (dk_at dksX4_undoes_0 22 rfl rfl)
theorem dX4_undoes_23 : decode cX4_undoes 23 = .ok (.aload_n 0, 1) := dk_42 (dk_at dksX4_undoes_0 23 rfl rfl)
theorem dX4_undoes_24 : decode cX4_undoes 24 = .ok (.getfield 100, 3) := dk_180 0 100 (dk_at dksX4_undoes_1 0 rfl rfl)
theorem dX4_undoes_27 : decode cX4_undoes 27 = .ok (.lstore 4, 2) := dk_55 4 (dk_at dksX4_undoes_1 3 rfl rfl)
theorem dX4_undoes_29 : decode cX4_undoes 29 = .ok (.iconst 0, 1) := dk_3 (dk_at dksX4_undoes_1 5 rfl rfl)
theorem dX4_undoes_30 : decode cX4_undoes 30 = .ok (.istore 6, 2) := dk_54 6 (dk_at dksX4_undoes_1 6 rfl rfl)
theorem dX4_undoes_32 : decode cX4_undoes 32 = .ok (.iload 6, 2) := dk_21 6 (dk_at dksX4_undoes_1 8 rfl rfl)
theorem dX4_undoes_34 : decode cX4_undoes 34 = .ok (.sipush 9999, 3) := dk_17 39 15 (dk_at dksX4_undoes_1 10 rfl rfl)
theorem dX4_undoes_37 : decode cX4_undoes 37 = .ok (.if_icmp .gt 88, 3) := dk_163 0 88 (dk_at dksX4_undoes_1 13 rfl rfl)
theorem dX4_undoes_40 : decode cX4_undoes 40 = .ok (.aload_n 0, 1) := dk_42 (dk_at dksX4_undoes_1 16 rfl rfl)
theorem dX4_undoes_41 : decode cX4_undoes 41 = .ok (.iload_n 1, 1) := dk_27 (dk_at dksX4_undoes_1 17 rfl rfl)
theorem dX4_undoes_42 : decode cX4_undoes 42 = .ok (.iload 6, 2) := dk_21 6 (dk_at dksX4_undoes_1 18 rfl rfl)
theorem dX4_undoes_44 : decode cX4_undoes 44 = .ok (.invokevirtual 160, 3) := dk_182 0 160 (dk_at dksX4_undoes_1 20 rfl rfl)
theorem dX4_undoes_47 : decode cX4_undoes 47 = .ok (.aload_n 0, 1) := dk_42 (dk_at dksX4_undoes_1 23 rfl rfl)
theorem dX4_undoes_48 : decode cX4_undoes 48 = .ok (.getfield 96, 3) := dk_180 0 96 (dk_at dksX4_undoes_2 0 rfl rfl)
theorem dX4_undoes_51 : decode cX4_undoes 51 = .ok (.lload_n 2, 1) := dk_32 (dk_at dksX4_undoes_2 3 rfl rfl)
theorem dX4_undoes_52 : decode cX4_undoes 52 = .ok (.lcmp, 1) := dk_148 (dk_at dksX4_undoes_2 4 rfl rfl)
theorem dX4_undoes_53 : decode cX4_undoes 53 = .ok (.ifCond .ne 17, 3) := dk_154 0 17 (dk_at dksX4_undoes_2 5 rfl rfl)
theorem dX4_undoes_56 : decode cX4_undoes 56 = .ok (.aload_n 0, 1) := dk_42 (dk_at dksX4_undoes_2 8 rfl rfl)
theorem dX4_undoes_57 : decode cX4_undoes 57 = .ok (.getfield 100, 3) := dk_180 0 100 (dk_at dksX4_undoes_2 9 rfl rfl)
theorem dX4_undoes_60 : decode cX4_undoes 60 = .ok (.lload 4, 2) := dk_22 4 (dk_at dksX4_undoes_2 12 rfl rfl)
theorem dX4_undoes_62 : decode cX4_undoes 62 = .ok (.lcmp, 1) := dk_148 (dk_at dksX4_undoes_2 14 rfl rfl)
theorem dX4_undoes_63 : decode cX4_undoes 63 = .ok (.ifCond .ne 7, 3) := dk_154 0 7 (dk_at dksX4_undoes_2 15 rfl rfl)
theorem dX4_undoes_66 : decode cX4_undoes 66 = .ok (.iconst 1, 1) := dk_4 (dk_at dksX4_undoes_2 18 rfl rfl)
theorem dX4_undoes_67 : decode cX4_undoes 67 = .ok (.goto 4, 3) := dk_167 0 4 (dk_at dksX4_undoes_2 19 rfl rfl)
theorem dX4_undoes_70 : decode cX4_undoes 70 = .ok (.iconst 0, 1) := dk_3 (dk_at dksX4_undoes_2 22 rfl rfl)
theorem dX4_undoes_71 : decode cX4_undoes 71 = .ok (.istore 7, 2) := dk_54 7 (dk_at dksX4_undoes_3 0 rfl rfl)
theorem dX4_undoes_73 : decode cX4_undoes 73 = .ok (.iload 7, 2) := dk_21 7 (dk_at dksX4_undoes_3 2 rfl rfl)
theorem dX4_undoes_75 : decode cX4_undoes 75 = .ok (.ifCond .eq 36, 3) := dk_153 0 36 (dk_at dksX4_undoes_3 4 rfl rfl)
theorem dX4_undoes_78 : decode cX4_undoes 78 = .ok (.aload_n 0, 1) := dk_42 (dk_at dksX4_undoes_3 7 rfl rfl)
theorem dX4_undoes_79 : decode cX4_undoes 79 = .ok (.iload 6, 2) := dk_21 6 (dk_at dksX4_undoes_3 8 rfl rfl)
theorem dX4_undoes_81 : decode cX4_undoes 81 = .ok (.iload_n 1, 1) := dk_27 (dk_at dksX4_undoes_3 10 rfl rfl)
theorem dX4_undoes_82 : decode cX4_undoes 82 = .ok (.invokevirtual 160, 3) := dk_182 0 160 (dk_at dksX4_undoes_3 11 rfl rfl)
theorem dX4_undoes_85 : decode cX4_undoes 85 = .ok (.aload_n 0, 1) := dk_42 (dk_at dksX4_undoes_3 14 rfl rfl)
theorem dX4_undoes_86 : decode cX4_undoes 86 = .ok (.getfield 96, 3) := dk_180 0 96 (dk_at dksX4_undoes_3 15 rfl rfl)
theorem dX4_undoes_89 : decode cX4_undoes 89 = .ok (.lload_n 2, 1) := dk_32 (dk_at dksX4_undoes_3 18 rfl rfl)
theorem dX4_undoes_90 : decode cX4_undoes 90 = .ok (.lcmp, 1) := dk_148 (dk_at dksX4_undoes_3 19 rfl rfl)
theorem dX4_undoes_91 : decode cX4_undoes 91 = .ok (.ifCond .ne 17, 3) := dk_154 0 17 (dk_at dksX4_undoes_3 20 rfl rfl)
theorem dX4_undoes_94 : decode cX4_undoes 94 = .ok (.aload_n 0, 1) := dk_42 (dk_at dksX4_undoes_3 23 rfl rfl)
theorem dX4_undoes_95 : decode cX4_undoes 95 = .ok (.getfield 100, 3) := dk_180 0 100 (dk_at dksX4_undoes_4 0 rfl rfl)
theorem dX4_undoes_98 : decode cX4_undoes 98 = .ok (.lload 4, 2) := dk_22 4 (dk_at dksX4_undoes_4 3 rfl rfl)
theorem dX4_undoes_100 : decode cX4_undoes 100 = .ok (.lcmp, 1) := dk_148 (dk_at dksX4_undoes_4 5 rfl rfl)
theorem dX4_undoes_101 : decode cX4_undoes 101 = .ok (.ifCond .ne 7, 3) := dk_154 0 7 (dk_at dksX4_undoes_4 6 rfl rfl)
theorem dX4_undoes_104 : decode cX4_undoes 104 = .ok (.iconst 1, 1) := dk_4 (dk_at dksX4_undoes_4 9 rfl rfl)
theorem dX4_undoes_105 : decode cX4_undoes 105 = .ok (.goto 4, 3) := dk_167 0 4 (dk_at dksX4_undoes_4 10 rfl rfl)
theorem dX4_undoes_108 : decode cX4_undoes 108 = .ok (.iconst 0, 1) := dk_3 (dk_at dksX4_undoes_4 13 rfl rfl)
theorem dX4_undoes_109 : decode cX4_undoes 109 = .ok (.istore 7, 2) := dk_54 7 (dk_at dksX4_undoes_4 14 rfl rfl)
theorem dX4_undoes_111 : decode cX4_undoes 111 = .ok (.iload 7, 2) := dk_21 7 (dk_at dksX4_undoes_4 16 rfl rfl)
theorem dX4_undoes_113 : decode cX4_undoes 113 = .ok (.ifCond .eq 6, 3) := dk_153 0 6 (dk_at dksX4_undoes_4 18 rfl rfl)
theorem dX4_undoes_116 : decode cX4_undoes 116 = .ok (.iload 6, 2) := dk_21 6 (dk_at dksX4_undoes_4 21 rfl rfl)
theorem dX4_undoes_118 : decode cX4_undoes 118 = .ok (.ireturn, 1) := dk_172 (dk_at dksX4_undoes_4 23 rfl rfl)
theorem dX4_undoes_119 : decode cX4_undoes 119 = .ok (.iinc 6 1, 3) := dk_132 6 1 (dk_at dksX4_undoes_5 0 rfl rfl)
theorem dX4_undoes_122 : decode cX4_undoes 122 = .ok (.goto (-90), 3) := dk_167 255 166 (dk_at dksX4_undoes_5 3 rfl rfl)
theorem dX4_undoes_125 : decode cX4_undoes 125 = .ok (.bipush (-2), 2) := dk_16 254 (dk_at dksX4_undoes_5 6 rfl rfl)
theorem dX4_undoes_127 : decode cX4_undoes 127 = .ok (.ireturn, 1) := dk_172 (dk_at dksX4_undoes_5 8 rfl rfl)
def dkwX4_rule_1 : List UInt8 := [160, 0, 6, 16, 254, 172, 42, 180, 0, 93, 61, 42, 27, 181, 0, 93, 42, 182, 0, 207, 28, 172]
abbrev dktX4_rule_1 : List UInt8 := dkwX4_rule_1 ++ []
def dkwX4_rule_0 : List UInt8 := [42, 3, 181, 0, 1, 27, 133, 9, 20, 0, 205, 184, 0, 21, 154, 0, 5, 2, 172, 42, 180, 0, 93, 27]
abbrev dktX4_rule_0 : List UInt8 := dkwX4_rule_0 ++ dktX4_rule_1
theorem dksX4_rule_0 : cX4_rule.data.toList.drop 0 = dktX4_rule_0 := by decide +kernel
theorem dksX4_rule_1 : cX4_rule.data.toList.drop 24 = dktX4_rule_1 := dk_seg dksX4_rule_0 24 rfl rfl
theorem dX4_rule_0 : decode cX4_rule 0 = .ok (.aload_n 0, 1) := dk_42 (dk_at dksX4_rule_0 0 rfl rfl)
theorem dX4_rule_1 : decode cX4_rule 1 = .ok (.iconst 0, 1) := dk_3 (dk_at dksX4_rule_0 1 rfl rfl)
theorem dX4_rule_2 : decode cX4_rule 2 = .ok (.putfield 1, 3) := dk_181 0 1 (dk_at dksX4_rule_0 2 rfl rfl)
theorem dX4_rule_5 : decode cX4_rule 5 = .ok (.iload_n 1, 1) := dk_27 (dk_at dksX4_rule_0 5 rfl rfl)
theorem dX4_rule_6 : decode cX4_rule 6 = .ok (.i2l, 1) := dk_133 (dk_at dksX4_rule_0 6 rfl rfl)
theorem dX4_rule_7 : decode cX4_rule 7 = .ok (.lconst 0, 1) := dk_9 (dk_at dksX4_rule_0 7 rfl rfl)
theorem dX4_rule_8 : decode cX4_rule 8 = .ok (.ldc2_w 205, 3) := dk_20 0 205 (dk_at dksX4_rule_0 8 rfl rfl)
theorem dX4_rule_11 : decode cX4_rule 11 = .ok (.invokestatic 21, 3) := dk_184 0 21 (dk_at dksX4_rule_0 11 rfl rfl)
theorem dX4_rule_14 : decode cX4_rule 14 = .ok (.ifCond .ne 5, 3) := dk_154 0 5 (dk_at dksX4_rule_0 14 rfl rfl)
theorem dX4_rule_17 : decode cX4_rule 17 = .ok (.iconst (-1), 1) := dk_2 (dk_at dksX4_rule_0 17 rfl rfl)
theorem dX4_rule_18 : decode cX4_rule 18 = .ok (.ireturn, 1) := dk_172 (dk_at dksX4_rule_0 18 rfl rfl)
theorem dX4_rule_19 : decode cX4_rule 19 = .ok (.aload_n 0, 1) := dk_42 (dk_at dksX4_rule_0 19 rfl rfl)
theorem dX4_rule_20 : decode cX4_rule 20 = .ok (.getfield 93, 3) := dk_180 0 93 (dk_at dksX4_rule_0 20 rfl rfl)
theorem dX4_rule_23 : decode cX4_rule 23 = .ok (.iload_n 1, 1) := dk_27 (dk_at dksX4_rule_0 23 rfl rfl)
theorem dX4_rule_24 : decode cX4_rule 24 = .ok (.if_icmp .ne 6, 3) := dk_160 0 6 (dk_at dksX4_rule_1 0 rfl rfl)
theorem dX4_rule_27 : decode cX4_rule 27 = .ok (.bipush (-2), 2) := dk_16 254 (dk_at dksX4_rule_1 3 rfl rfl)
theorem dX4_rule_29 : decode cX4_rule 29 = .ok (.ireturn, 1) := dk_172 (dk_at dksX4_rule_1 5 rfl rfl)
theorem dX4_rule_30 : decode cX4_rule 30 = .ok (.aload_n 0, 1) := dk_42 (dk_at dksX4_rule_1 6 rfl rfl)
theorem dX4_rule_31 : decode cX4_rule 31 = .ok (.getfield 93, 3) := dk_180 0 93 (dk_at dksX4_rule_1 7 rfl rfl)
theorem dX4_rule_34 : decode cX4_rule 34 = .ok (.istore_n 2, 1) := dk_61 (dk_at dksX4_rule_1 10 rfl rfl)
theorem dX4_rule_35 : decode cX4_rule 35 = .ok (.aload_n 0, 1) := dk_42 (dk_at dksX4_rule_1 11 rfl rfl)
theorem dX4_rule_36 : decode cX4_rule 36 = .ok (.iload_n 1, 1) := dk_27 (dk_at dksX4_rule_1 12 rfl rfl)
theorem dX4_rule_37 : decode cX4_rule 37 = .ok (.putfield 93, 3) := dk_181 0 93 (dk_at dksX4_rule_1 13 rfl rfl)
theorem dX4_rule_40 : decode cX4_rule 40 = .ok (.aload_n 0, 1) := dk_42 (dk_at dksX4_rule_1 16 rfl rfl)
theorem dX4_rule_41 : decode cX4_rule 41 = .ok (.invokevirtual 207, 3) := dk_182 0 207 (dk_at dksX4_rule_1 17 rfl rfl)
theorem dX4_rule_44 : decode cX4_rule 44 = .ok (.iload_n 2, 1) := dk_28 (dk_at dksX4_rule_1 20 rfl rfl)
theorem dX4_rule_45 : decode cX4_rule 45 = .ok (.ireturn, 1) := dk_172 (dk_at dksX4_rule_1 21 rfl rfl)
def dkwX4_laysAll_1 : List UInt8 := [3, 29, 28, 182, 0, 199, 132, 1, 1, 167, 255, 225, 177]
abbrev dktX4_laysAll_1 : List UInt8 := dkwX4_laysAll_1 ++ []
def dkwX4_laysAll_0 : List UInt8 := [3, 60, 27, 7, 162, 0, 32, 42, 180, 0, 66, 5, 27, 104, 46, 61, 42, 27, 182, 0, 196, 62, 42, 27]
abbrev dktX4_laysAll_0 : List UInt8 := dkwX4_laysAll_0 ++ dktX4_laysAll_1
theorem dksX4_laysAll_0 : cX4_laysAll.data.toList.drop 0 = dktX4_laysAll_0 := by decide +kernel
theorem dksX4_laysAll_1 : cX4_laysAll.data.toList.drop 24 = dktX4_laysAll_1 := dk_seg dksX4_laysAll_0 24 rfl rfl
theorem dX4_laysAll_0 : decode cX4_laysAll 0 = .ok (.iconst 0, 1) := dk_3 (dk_at dksX4_laysAll_0 0 rfl rfl)
theorem dX4_laysAll_1 : decode cX4_laysAll 1 = .ok (.istore_n 1, 1) := dk_60 (dk_at dksX4_laysAll_0 1 rfl rfl)
theorem dX4_laysAll_2 : decode cX4_laysAll 2 = .ok (.iload_n 1, 1) := dk_27 (dk_at dksX4_laysAll_0 2 rfl rfl)
theorem dX4_laysAll_3 : decode cX4_laysAll 3 = .ok (.iconst 4, 1) := dk_7 (dk_at dksX4_laysAll_0 3 rfl rfl)
theorem dX4_laysAll_4 : decode cX4_laysAll 4 = .ok (.if_icmp .ge 32, 3) := dk_162 0 32 (dk_at dksX4_laysAll_0 4 rfl rfl)
theorem dX4_laysAll_7 : decode cX4_laysAll 7 = .ok (.aload_n 0, 1) := dk_42 (dk_at dksX4_laysAll_0 7 rfl rfl)
theorem dX4_laysAll_8 : decode cX4_laysAll 8 = .ok (.getfield 66, 3) := dk_180 0 66 (dk_at dksX4_laysAll_0 8 rfl rfl)
theorem dX4_laysAll_11 : decode cX4_laysAll 11 = .ok (.iconst 2, 1) := dk_5 (dk_at dksX4_laysAll_0 11 rfl rfl)
theorem dX4_laysAll_12 : decode cX4_laysAll 12 = .ok (.iload_n 1, 1) := dk_27 (dk_at dksX4_laysAll_0 12 rfl rfl)
theorem dX4_laysAll_13 : decode cX4_laysAll 13 = .ok (.imul, 1) := dk_104 (dk_at dksX4_laysAll_0 13 rfl rfl)
theorem dX4_laysAll_14 : decode cX4_laysAll 14 = .ok (.iaload, 1) := dk_46 (dk_at dksX4_laysAll_0 14 rfl rfl)
theorem dX4_laysAll_15 : decode cX4_laysAll 15 = .ok (.istore_n 2, 1) := dk_61 (dk_at dksX4_laysAll_0 15 rfl rfl)
theorem dX4_laysAll_16 : decode cX4_laysAll 16 = .ok (.aload_n 0, 1) := dk_42 (dk_at dksX4_laysAll_0 16 rfl rfl)
theorem dX4_laysAll_17 : decode cX4_laysAll 17 = .ok (.iload_n 1, 1) := dk_27 (dk_at dksX4_laysAll_0 17 rfl rfl)
theorem dX4_laysAll_18 : decode cX4_laysAll 18 = .ok (.invokevirtual 196, 3) := dk_182 0 196 (dk_at dksX4_laysAll_0 18 rfl rfl)
theorem dX4_laysAll_21 : decode cX4_laysAll 21 = .ok (.istore_n 3, 1) := dk_62 (dk_at dksX4_laysAll_0 21 rfl rfl)
theorem dX4_laysAll_22 : decode cX4_laysAll 22 = .ok (.aload_n 0, 1) := dk_42 (dk_at dksX4_laysAll_0 22 rfl rfl)
theorem dX4_laysAll_23 : decode cX4_laysAll 23 = .ok (.iload_n 1, 1) := dk_27 (dk_at dksX4_laysAll_0 23 rfl rfl)
theorem dX4_laysAll_24 : decode cX4_laysAll 24 = .ok (.iconst 0, 1) := dk_3 (dk_at dksX4_laysAll_1 0 rfl rfl)
theorem dX4_laysAll_25 : decode cX4_laysAll 25 = .ok (.iload_n 3, 1) := dk_29 (dk_at dksX4_laysAll_1 1 rfl rfl)
theorem dX4_laysAll_26 : decode cX4_laysAll 26 = .ok (.iload_n 2, 1) := dk_28 (dk_at dksX4_laysAll_1 2 rfl rfl)
theorem dX4_laysAll_27 : decode cX4_laysAll 27 = .ok (.invokevirtual 199, 3) := dk_182 0 199 (dk_at dksX4_laysAll_1 3 rfl rfl)
theorem dX4_laysAll_30 : decode cX4_laysAll 30 = .ok (.iinc 1 1, 3) := dk_132 1 1 (dk_at dksX4_laysAll_1 6 rfl rfl)
theorem dX4_laysAll_33 : decode cX4_laysAll 33 = .ok (.goto (-31), 3) := dk_167 255 225 (dk_at dksX4_laysAll_1 9 rfl rfl)
theorem dX4_laysAll_36 : decode cX4_laysAll 36 = .ok (.return_, 1) := dk_177 (dk_at dksX4_laysAll_1 12 rfl rfl)
def dkwX4_takesItems_1 : List UInt8 := [79, 132, 3, 1, 167, 255, 236, 28, 172]
abbrev dktX4_takesItems_1 : List UInt8 := dkwX4_takesItems_1 ++ []
def dkwX4_takesItems_0 : List UInt8 := [42, 27, 182, 0, 187, 61, 3, 62, 29, 28, 162, 0, 21, 42, 180, 0, 81, 29, 42, 27, 29, 182, 0, 190]
abbrev dktX4_takesItems_0 : List UInt8 := dkwX4_takesItems_0 ++ dktX4_takesItems_1
theorem dksX4_takesItems_0 : cX4_takesItems.data.toList.drop 0 = dktX4_takesItems_0 := by decide +kernel
theorem dksX4_takesItems_1 : cX4_takesItems.data.toList.drop 24 = dktX4_takesItems_1 := dk_seg dksX4_takesItems_0 24 rfl rfl
theorem dX4_takesItems_0 : decode cX4_takesItems 0 = .ok (.aload_n 0, 1) := dk_42 (dk_at dksX4_takesItems_0 0 rfl rfl)
theorem dX4_takesItems_1 : decode cX4_takesItems 1 = .ok (.iload_n 1, 1) := dk_27 (dk_at dksX4_takesItems_0 1 rfl rfl)
theorem dX4_takesItems_2 : decode cX4_takesItems 2 = .ok (.invokevirtual 187, 3) := dk_182 0 187 (dk_at dksX4_takesItems_0 2 rfl rfl)
theorem dX4_takesItems_5 : decode cX4_takesItems 5 = .ok (.istore_n 2, 1) := dk_61 (dk_at dksX4_takesItems_0 5 rfl rfl)
theorem dX4_takesItems_6 : decode cX4_takesItems 6 = .ok (.iconst 0, 1) := dk_3 (dk_at dksX4_takesItems_0 6 rfl rfl)
theorem dX4_takesItems_7 : decode cX4_takesItems 7 = .ok (.istore_n 3, 1) := dk_62 (dk_at dksX4_takesItems_0 7 rfl rfl)
theorem dX4_takesItems_8 : decode cX4_takesItems 8 = .ok (.iload_n 3, 1) := dk_29 (dk_at dksX4_takesItems_0 8 rfl rfl)
theorem dX4_takesItems_9 : decode cX4_takesItems 9 = .ok (.iload_n 2, 1) := dk_28 (dk_at dksX4_takesItems_0 9 rfl rfl)
theorem dX4_takesItems_10 : decode cX4_takesItems 10 = .ok (.if_icmp .ge 21, 3) := dk_162 0 21 (dk_at dksX4_takesItems_0 10 rfl rfl)
theorem dX4_takesItems_13 : decode cX4_takesItems 13 = .ok (.aload_n 0, 1) := dk_42 (dk_at dksX4_takesItems_0 13 rfl rfl)
theorem dX4_takesItems_14 : decode cX4_takesItems 14 = .ok (.getfield 81, 3) := dk_180 0 81 (dk_at dksX4_takesItems_0 14 rfl rfl)
theorem dX4_takesItems_17 : decode cX4_takesItems 17 = .ok (.iload_n 3, 1) := dk_29 (dk_at dksX4_takesItems_0 17 rfl rfl)
theorem dX4_takesItems_18 : decode cX4_takesItems 18 = .ok (.aload_n 0, 1) := dk_42 (dk_at dksX4_takesItems_0 18 rfl rfl)
theorem dX4_takesItems_19 : decode cX4_takesItems 19 = .ok (.iload_n 1, 1) := dk_27 (dk_at dksX4_takesItems_0 19 rfl rfl)
theorem dX4_takesItems_20 : decode cX4_takesItems 20 = .ok (.iload_n 3, 1) := dk_29 (dk_at dksX4_takesItems_0 20 rfl rfl)
theorem dX4_takesItems_21 : decode cX4_takesItems 21 = .ok (.invokevirtual 190, 3) := dk_182 0 190 (dk_at dksX4_takesItems_0 21 rfl rfl)
theorem dX4_takesItems_24 : decode cX4_takesItems 24 = .ok (.iastore, 1) := dk_79 (dk_at dksX4_takesItems_1 0 rfl rfl)
theorem dX4_takesItems_25 : decode cX4_takesItems 25 = .ok (.iinc 3 1, 3) := dk_132 3 1 (dk_at dksX4_takesItems_1 1 rfl rfl)
theorem dX4_takesItems_28 : decode cX4_takesItems 28 = .ok (.goto (-20), 3) := dk_167 255 236 (dk_at dksX4_takesItems_1 4 rfl rfl)
theorem dX4_takesItems_31 : decode cX4_takesItems 31 = .ok (.iload_n 2, 1) := dk_28 (dk_at dksX4_takesItems_1 7 rfl rfl)
theorem dX4_takesItems_32 : decode cX4_takesItems 32 = .ok (.ireturn, 1) := dk_172 (dk_at dksX4_takesItems_1 8 rfl rfl)
def dkwX4_sizeOf_0 : List UInt8 := [42, 180, 0, 66, 5, 27, 104, 46, 42, 180, 0, 66, 5, 27, 104, 4, 96, 46, 96, 172]
abbrev dktX4_sizeOf_0 : List UInt8 := dkwX4_sizeOf_0 ++ []
theorem dksX4_sizeOf_0 : cX4_sizeOf.data.toList.drop 0 = dktX4_sizeOf_0 := by decide +kernel
theorem dX4_sizeOf_0 : decode cX4_sizeOf 0 = .ok (.aload_n 0, 1) := dk_42 (dk_at dksX4_sizeOf_0 0 rfl rfl)
theorem dX4_sizeOf_1 : decode cX4_sizeOf 1 = .ok (.getfield 66, 3) := dk_180 0 66 (dk_at dksX4_sizeOf_0 1 rfl rfl)
theorem dX4_sizeOf_4 : decode cX4_sizeOf 4 = .ok (.iconst 2, 1) := dk_5 (dk_at dksX4_sizeOf_0 4 rfl rfl)
theorem dX4_sizeOf_5 : decode cX4_sizeOf 5 = .ok (.iload_n 1, 1) := dk_27 (dk_at dksX4_sizeOf_0 5 rfl rfl)
theorem dX4_sizeOf_6 : decode cX4_sizeOf 6 = .ok (.imul, 1) := dk_104 (dk_at dksX4_sizeOf_0 6 rfl rfl)
theorem dX4_sizeOf_7 : decode cX4_sizeOf 7 = .ok (.iaload, 1) := dk_46 (dk_at dksX4_sizeOf_0 7 rfl rfl)
theorem dX4_sizeOf_8 : decode cX4_sizeOf 8 = .ok (.aload_n 0, 1) := dk_42 (dk_at dksX4_sizeOf_0 8 rfl rfl)
theorem dX4_sizeOf_9 : decode cX4_sizeOf 9 = .ok (.getfield 66, 3) := dk_180 0 66 (dk_at dksX4_sizeOf_0 9 rfl rfl)
theorem dX4_sizeOf_12 : decode cX4_sizeOf 12 = .ok (.iconst 2, 1) := dk_5 (dk_at dksX4_sizeOf_0 12 rfl rfl)
theorem dX4_sizeOf_13 : decode cX4_sizeOf 13 = .ok (.iload_n 1, 1) := dk_27 (dk_at dksX4_sizeOf_0 13 rfl rfl)
theorem dX4_sizeOf_14 : decode cX4_sizeOf 14 = .ok (.imul, 1) := dk_104 (dk_at dksX4_sizeOf_0 14 rfl rfl)
theorem dX4_sizeOf_15 : decode cX4_sizeOf 15 = .ok (.iconst 1, 1) := dk_4 (dk_at dksX4_sizeOf_0 15 rfl rfl)
theorem dX4_sizeOf_16 : decode cX4_sizeOf 16 = .ok (.iadd, 1) := dk_96 (dk_at dksX4_sizeOf_0 16 rfl rfl)
theorem dX4_sizeOf_17 : decode cX4_sizeOf 17 = .ok (.iaload, 1) := dk_46 (dk_at dksX4_sizeOf_0 17 rfl rfl)
theorem dX4_sizeOf_18 : decode cX4_sizeOf 18 = .ok (.iadd, 1) := dk_96 (dk_at dksX4_sizeOf_0 18 rfl rfl)
theorem dX4_sizeOf_19 : decode cX4_sizeOf 19 = .ok (.ireturn, 1) := dk_172 (dk_at dksX4_sizeOf_0 19 rfl rfl)
def dkwX4_itemAt_0 : List UInt8 := [42, 180, 0, 72, 42, 27, 28, 182, 0, 181, 46, 172]
abbrev dktX4_itemAt_0 : List UInt8 := dkwX4_itemAt_0 ++ []
theorem dksX4_itemAt_0 : cX4_itemAt.data.toList.drop 0 = dktX4_itemAt_0 := by decide +kernel
theorem dX4_itemAt_0 : decode cX4_itemAt 0 = .ok (.aload_n 0, 1) := dk_42 (dk_at dksX4_itemAt_0 0 rfl rfl)
theorem dX4_itemAt_1 : decode cX4_itemAt 1 = .ok (.getfield 72, 3) := dk_180 0 72 (dk_at dksX4_itemAt_0 1 rfl rfl)
theorem dX4_itemAt_4 : decode cX4_itemAt 4 = .ok (.aload_n 0, 1) := dk_42 (dk_at dksX4_itemAt_0 4 rfl rfl)
theorem dX4_itemAt_5 : decode cX4_itemAt 5 = .ok (.iload_n 1, 1) := dk_27 (dk_at dksX4_itemAt_0 5 rfl rfl)
theorem dX4_itemAt_6 : decode cX4_itemAt 6 = .ok (.iload_n 2, 1) := dk_28 (dk_at dksX4_itemAt_0 6 rfl rfl)
theorem dX4_itemAt_7 : decode cX4_itemAt 7 = .ok (.invokevirtual 181, 3) := dk_182 0 181 (dk_at dksX4_itemAt_0 7 rfl rfl)
theorem dX4_itemAt_10 : decode cX4_itemAt 10 = .ok (.iaload, 1) := dk_46 (dk_at dksX4_itemAt_0 10 rfl rfl)
theorem dX4_itemAt_11 : decode cX4_itemAt 11 = .ok (.ireturn, 1) := dk_172 (dk_at dksX4_itemAt_0 11 rfl rfl)
def dkwX4_placeOf_1 : List UInt8 := [184, 0, 178, 167, 0, 14, 5, 27, 104, 4, 96, 28, 29, 100, 184, 0, 178, 172]
abbrev dktX4_placeOf_1 : List UInt8 := dkwX4_placeOf_1 ++ []
def dkwX4_placeOf_0 : List UInt8 := [42, 180, 0, 66, 5, 27, 104, 46, 62, 28, 29, 162, 0, 17, 5, 27, 104, 29, 4, 100, 28, 100]
abbrev dktX4_placeOf_0 : List UInt8 := dkwX4_placeOf_0 ++ dktX4_placeOf_1
theorem dksX4_placeOf_0 : cX4_placeOf.data.toList.drop 0 = dktX4_placeOf_0 := by decide +kernel
theorem dksX4_placeOf_1 : cX4_placeOf.data.toList.drop 22 = dktX4_placeOf_1 := dk_seg dksX4_placeOf_0 22 rfl rfl
theorem dX4_placeOf_0 : decode cX4_placeOf 0 = .ok (.aload_n 0, 1) := dk_42 (dk_at dksX4_placeOf_0 0 rfl rfl)
theorem dX4_placeOf_1 : decode cX4_placeOf 1 = .ok (.getfield 66, 3) := dk_180 0 66 (dk_at dksX4_placeOf_0 1 rfl rfl)
theorem dX4_placeOf_4 : decode cX4_placeOf 4 = .ok (.iconst 2, 1) := dk_5 (dk_at dksX4_placeOf_0 4 rfl rfl)
theorem dX4_placeOf_5 : decode cX4_placeOf 5 = .ok (.iload_n 1, 1) := dk_27 (dk_at dksX4_placeOf_0 5 rfl rfl)
theorem dX4_placeOf_6 : decode cX4_placeOf 6 = .ok (.imul, 1) := dk_104 (dk_at dksX4_placeOf_0 6 rfl rfl)
theorem dX4_placeOf_7 : decode cX4_placeOf 7 = .ok (.iaload, 1) := dk_46 (dk_at dksX4_placeOf_0 7 rfl rfl)
theorem dX4_placeOf_8 : decode cX4_placeOf 8 = .ok (.istore_n 3, 1) := dk_62 (dk_at dksX4_placeOf_0 8 rfl rfl)
theorem dX4_placeOf_9 : decode cX4_placeOf 9 = .ok (.iload_n 2, 1) := dk_28 (dk_at dksX4_placeOf_0 9 rfl rfl)
theorem dX4_placeOf_10 : decode cX4_placeOf 10 = .ok (.iload_n 3, 1) := dk_29 (dk_at dksX4_placeOf_0 10 rfl rfl)
theorem dX4_placeOf_11 : decode cX4_placeOf 11 = .ok (.if_icmp .ge 17, 3) := dk_162 0 17 (dk_at dksX4_placeOf_0 11 rfl rfl)
theorem dX4_placeOf_14 : decode cX4_placeOf 14 = .ok (.iconst 2, 1) := dk_5 (dk_at dksX4_placeOf_0 14 rfl rfl)
theorem dX4_placeOf_15 : decode cX4_placeOf 15 = .ok (.iload_n 1, 1) := dk_27 (dk_at dksX4_placeOf_0 15 rfl rfl)
theorem dX4_placeOf_16 : decode cX4_placeOf 16 = .ok (.imul, 1) := dk_104 (dk_at dksX4_placeOf_0 16 rfl rfl)
theorem dX4_placeOf_17 : decode cX4_placeOf 17 = .ok (.iload_n 3, 1) := dk_29 (dk_at dksX4_placeOf_0 17 rfl rfl)
theorem dX4_placeOf_18 : decode cX4_placeOf 18 = .ok (.iconst 1, 1) := dk_4 (dk_at dksX4_placeOf_0 18 rfl rfl)
theorem dX4_placeOf_19 : decode cX4_placeOf 19 = .ok (.isub, 1) := dk_100 (dk_at dksX4_placeOf_0 19 rfl rfl)
theorem dX4_placeOf_20 : decode cX4_placeOf 20 = .ok (.iload_n 2, 1) := dk_28 (dk_at dksX4_placeOf_0 20 rfl rfl)
theorem dX4_placeOf_21 : decode cX4_placeOf 21 = .ok (.isub, 1) := dk_100 (dk_at dksX4_placeOf_0 21 rfl rfl)
theorem dX4_placeOf_22 : decode cX4_placeOf 22 = .ok (.invokestatic 178, 3) := dk_184 0 178 (dk_at dksX4_placeOf_1 0 rfl rfl)
theorem dX4_placeOf_25 : decode cX4_placeOf 25 = .ok (.goto 14, 3) := dk_167 0 14 (dk_at dksX4_placeOf_1 3 rfl rfl)
theorem dX4_placeOf_28 : decode cX4_placeOf 28 = .ok (.iconst 2, 1) := dk_5 (dk_at dksX4_placeOf_1 6 rfl rfl)
theorem dX4_placeOf_29 : decode cX4_placeOf 29 = .ok (.iload_n 1, 1) := dk_27 (dk_at dksX4_placeOf_1 7 rfl rfl)
theorem dX4_placeOf_30 : decode cX4_placeOf 30 = .ok (.imul, 1) := dk_104 (dk_at dksX4_placeOf_1 8 rfl rfl)
theorem dX4_placeOf_31 : decode cX4_placeOf 31 = .ok (.iconst 1, 1) := dk_4 (dk_at dksX4_placeOf_1 9 rfl rfl)
theorem dX4_placeOf_32 : decode cX4_placeOf 32 = .ok (.iadd, 1) := dk_96 (dk_at dksX4_placeOf_1 10 rfl rfl)
theorem dX4_placeOf_33 : decode cX4_placeOf 33 = .ok (.iload_n 2, 1) := dk_28 (dk_at dksX4_placeOf_1 11 rfl rfl)
theorem dX4_placeOf_34 : decode cX4_placeOf 34 = .ok (.iload_n 3, 1) := dk_29 (dk_at dksX4_placeOf_1 12 rfl rfl)
theorem dX4_placeOf_35 : decode cX4_placeOf 35 = .ok (.isub, 1) := dk_100 (dk_at dksX4_placeOf_1 13 rfl rfl)
theorem dX4_placeOf_36 : decode cX4_placeOf 36 = .ok (.invokestatic 178, 3) := dk_184 0 178 (dk_at dksX4_placeOf_1 14 rfl rfl)
theorem dX4_placeOf_39 : decode cX4_placeOf 39 = .ok (.ireturn, 1) := dk_172 (dk_at dksX4_placeOf_1 17 rfl rfl)
def dkwX4_place_0 : List UInt8 := [16, 64, 26, 104, 27, 96, 172]
abbrev dktX4_place_0 : List UInt8 := dkwX4_place_0 ++ []
theorem dksX4_place_0 : cX4_place.data.toList.drop 0 = dktX4_place_0 := by decide +kernel
theorem dX4_place_0 : decode cX4_place 0 = .ok (.bipush 64, 2) := dk_16 64 (dk_at dksX4_place_0 0 rfl rfl)
theorem dX4_place_2 : decode cX4_place 2 = .ok (.iload_n 0, 1) := dk_26 (dk_at dksX4_place_0 2 rfl rfl)
theorem dX4_place_3 : decode cX4_place 3 = .ok (.imul, 1) := dk_104 (dk_at dksX4_place_0 3 rfl rfl)
theorem dX4_place_4 : decode cX4_place 4 = .ok (.iload_n 1, 1) := dk_27 (dk_at dksX4_place_0 4 rfl rfl)
theorem dX4_place_5 : decode cX4_place 5 = .ok (.iadd, 1) := dk_96 (dk_at dksX4_place_0 5 rfl rfl)
theorem dX4_place_6 : decode cX4_place 6 = .ok (.ireturn, 1) := dk_172 (dk_at dksX4_place_0 6 rfl rfl)
def dkwX4_lays_2_3 : List UInt8 := [180, 0, 81, 28, 21, 5, 96, 46, 182, 0, 193, 132, 5, 1, 167, 255, 229, 177]
abbrev dktX4_lays_2_3 : List UInt8 := dkwX4_lays_2_3 ++ []
def dkwX4_lays_2_2 : List UInt8 := [132, 5, 255, 167, 255, 232, 21, 4, 54, 5, 21, 5, 29, 162, 0, 27, 42, 5, 27, 104, 4, 96, 42]
abbrev dktX4_lays_2_2 : List UInt8 := dkwX4_lays_2_2 ++ dktX4_lays_2_3
def dkwX4_lays_2_1 : List UInt8 := [54, 5, 21, 5, 155, 0, 25, 42, 5, 27, 104, 42, 180, 0, 81, 28, 21, 5, 96, 46, 182, 0, 193]
abbrev dktX4_lays_2_1 : List UInt8 := dkwX4_lays_2_1 ++ dktX4_lays_2_2
def dkwX4_lays_2_0 : List UInt8 := [42, 180, 0, 66, 5, 27, 104, 3, 79, 42, 180, 0, 66, 5, 27, 104, 4, 96, 3, 79, 21, 4, 4, 100]
abbrev dktX4_lays_2_0 : List UInt8 := dkwX4_lays_2_0 ++ dktX4_lays_2_1
theorem dksX4_lays_2_0 : cX4_lays_2.data.toList.drop 0 = dktX4_lays_2_0 := by decide +kernel
theorem dksX4_lays_2_1 : cX4_lays_2.data.toList.drop 24 = dktX4_lays_2_1 := dk_seg dksX4_lays_2_0 24 rfl rfl
theorem dksX4_lays_2_2 : cX4_lays_2.data.toList.drop 47 = dktX4_lays_2_2 := dk_seg dksX4_lays_2_1 23 rfl rfl
theorem dksX4_lays_2_3 : cX4_lays_2.data.toList.drop 70 = dktX4_lays_2_3 := dk_seg dksX4_lays_2_2 23 rfl rfl
theorem dX4_lays_2_0 : decode cX4_lays_2 0 = .ok (.aload_n 0, 1) := dk_42 (dk_at dksX4_lays_2_0 0 rfl rfl)
theorem dX4_lays_2_1 : decode cX4_lays_2 1 = .ok (.getfield 66, 3) := dk_180 0 66 (dk_at dksX4_lays_2_0 1 rfl rfl)
theorem dX4_lays_2_4 : decode cX4_lays_2 4 = .ok (.iconst 2, 1) := dk_5 (dk_at dksX4_lays_2_0 4 rfl rfl)
theorem dX4_lays_2_5 : decode cX4_lays_2 5 = .ok (.iload_n 1, 1) := dk_27 (dk_at dksX4_lays_2_0 5 rfl rfl)
theorem dX4_lays_2_6 : decode cX4_lays_2 6 = .ok (.imul, 1) := dk_104 (dk_at dksX4_lays_2_0 6 rfl rfl)
theorem dX4_lays_2_7 : decode cX4_lays_2 7 = .ok (.iconst 0, 1) := dk_3 (dk_at dksX4_lays_2_0 7 rfl rfl)
theorem dX4_lays_2_8 : decode cX4_lays_2 8 = .ok (.iastore, 1) := dk_79 (dk_at dksX4_lays_2_0 8 rfl rfl)
theorem dX4_lays_2_9 : decode cX4_lays_2 9 = .ok (.aload_n 0, 1) := dk_42 (dk_at dksX4_lays_2_0 9 rfl rfl)
theorem dX4_lays_2_10 : decode cX4_lays_2 10 = .ok (.getfield 66, 3) := dk_180 0 66 (dk_at dksX4_lays_2_0 10 rfl rfl)
theorem dX4_lays_2_13 : decode cX4_lays_2 13 = .ok (.iconst 2, 1) := dk_5 (dk_at dksX4_lays_2_0 13 rfl rfl)
theorem dX4_lays_2_14 : decode cX4_lays_2 14 = .ok (.iload_n 1, 1) := dk_27 (dk_at dksX4_lays_2_0 14 rfl rfl)
theorem dX4_lays_2_15 : decode cX4_lays_2 15 = .ok (.imul, 1) := dk_104 (dk_at dksX4_lays_2_0 15 rfl rfl)
theorem dX4_lays_2_16 : decode cX4_lays_2 16 = .ok (.iconst 1, 1) := dk_4 (dk_at dksX4_lays_2_0 16 rfl rfl)
theorem dX4_lays_2_17 : decode cX4_lays_2 17 = .ok (.iadd, 1) := dk_96 (dk_at dksX4_lays_2_0 17 rfl rfl)
theorem dX4_lays_2_18 : decode cX4_lays_2 18 = .ok (.iconst 0, 1) := dk_3 (dk_at dksX4_lays_2_0 18 rfl rfl)
theorem dX4_lays_2_19 : decode cX4_lays_2 19 = .ok (.iastore, 1) := dk_79 (dk_at dksX4_lays_2_0 19 rfl rfl)
theorem dX4_lays_2_20 : decode cX4_lays_2 20 = .ok (.iload 4, 2) := dk_21 4 (dk_at dksX4_lays_2_0 20 rfl rfl)
theorem dX4_lays_2_22 : decode cX4_lays_2 22 = .ok (.iconst 1, 1) := dk_4 (dk_at dksX4_lays_2_0 22 rfl rfl)
theorem dX4_lays_2_23 : decode cX4_lays_2 23 = .ok (.isub, 1) := dk_100 (dk_at dksX4_lays_2_0 23 rfl rfl)
theorem dX4_lays_2_24 : decode cX4_lays_2 24 = .ok (.istore 5, 2) := dk_54 5 (dk_at dksX4_lays_2_1 0 rfl rfl)
theorem dX4_lays_2_26 : decode cX4_lays_2 26 = .ok (.iload 5, 2) := dk_21 5 (dk_at dksX4_lays_2_1 2 rfl rfl)
theorem dX4_lays_2_28 : decode cX4_lays_2 28 = .ok (.ifCond .lt 25, 3) := dk_155 0 25 (dk_at dksX4_lays_2_1 4 rfl rfl)
theorem dX4_lays_2_31 : decode cX4_lays_2 31 = .ok (.aload_n 0, 1) := dk_42 (dk_at dksX4_lays_2_1 7 rfl rfl)
theorem dX4_lays_2_32 : decode cX4_lays_2 32 = .ok (.iconst 2, 1) := dk_5 (dk_at dksX4_lays_2_1 8 rfl rfl)
theorem dX4_lays_2_33 : decode cX4_lays_2 33 = .ok (.iload_n 1, 1) := dk_27 (dk_at dksX4_lays_2_1 9 rfl rfl)
theorem dX4_lays_2_34 : decode cX4_lays_2 34 = .ok (.imul, 1) := dk_104 (dk_at dksX4_lays_2_1 10 rfl rfl)
theorem dX4_lays_2_35 : decode cX4_lays_2 35 = .ok (.aload_n 0, 1) := dk_42 (dk_at dksX4_lays_2_1 11 rfl rfl)
theorem dX4_lays_2_36 : decode cX4_lays_2 36 = .ok (.getfield 81, 3) := dk_180 0 81 (dk_at dksX4_lays_2_1 12 rfl rfl)
theorem dX4_lays_2_39 : decode cX4_lays_2 39 = .ok (.iload_n 2, 1) := dk_28 (dk_at dksX4_lays_2_1 15 rfl rfl)
theorem dX4_lays_2_40 : decode cX4_lays_2 40 = .ok (.iload 5, 2) := dk_21 5 (dk_at dksX4_lays_2_1 16 rfl rfl)
theorem dX4_lays_2_42 : decode cX4_lays_2 42 = .ok (.iadd, 1) := dk_96 (dk_at dksX4_lays_2_1 18 rfl rfl)
theorem dX4_lays_2_43 : decode cX4_lays_2 43 = .ok (.iaload, 1) := dk_46 (dk_at dksX4_lays_2_1 19 rfl rfl)
theorem dX4_lays_2_44 : decode cX4_lays_2 44 = .ok (.invokevirtual 193, 3) := dk_182 0 193 (dk_at dksX4_lays_2_1 20 rfl rfl)
theorem dX4_lays_2_47 : decode cX4_lays_2 47 = .ok (.iinc 5 (-1), 3) := dk_132 5 255 (dk_at dksX4_lays_2_2 0 rfl rfl)
theorem dX4_lays_2_50 : decode cX4_lays_2 50 = .ok (.goto (-24), 3) := dk_167 255 232 (dk_at dksX4_lays_2_2 3 rfl rfl)
theorem dX4_lays_2_53 : decode cX4_lays_2 53 = .ok (.iload 4, 2) := dk_21 4 (dk_at dksX4_lays_2_2 6 rfl rfl)
theorem dX4_lays_2_55 : decode cX4_lays_2 55 = .ok (.istore 5, 2) := dk_54 5 (dk_at dksX4_lays_2_2 8 rfl rfl)
theorem dX4_lays_2_57 : decode cX4_lays_2 57 = .ok (.iload 5, 2) := dk_21 5 (dk_at dksX4_lays_2_2 10 rfl rfl)
theorem dX4_lays_2_59 : decode cX4_lays_2 59 = .ok (.iload_n 3, 1) := dk_29 (dk_at dksX4_lays_2_2 12 rfl rfl)
theorem dX4_lays_2_60 : decode cX4_lays_2 60 = .ok (.if_icmp .ge 27, 3) := dk_162 0 27 (dk_at dksX4_lays_2_2 13 rfl rfl)
theorem dX4_lays_2_63 : decode cX4_lays_2 63 = .ok (.aload_n 0, 1) := dk_42 (dk_at dksX4_lays_2_2 16 rfl rfl)
theorem dX4_lays_2_64 : decode cX4_lays_2 64 = .ok (.iconst 2, 1) := dk_5 (dk_at dksX4_lays_2_2 17 rfl rfl)
theorem dX4_lays_2_65 : decode cX4_lays_2 65 = .ok (.iload_n 1, 1) := dk_27 (dk_at dksX4_lays_2_2 18 rfl rfl)
theorem dX4_lays_2_66 : decode cX4_lays_2 66 = .ok (.imul, 1) := dk_104 (dk_at dksX4_lays_2_2 19 rfl rfl)
theorem dX4_lays_2_67 : decode cX4_lays_2 67 = .ok (.iconst 1, 1) := dk_4 (dk_at dksX4_lays_2_2 20 rfl rfl)
theorem dX4_lays_2_68 : decode cX4_lays_2 68 = .ok (.iadd, 1) := dk_96 (dk_at dksX4_lays_2_2 21 rfl rfl)
theorem dX4_lays_2_69 : decode cX4_lays_2 69 = .ok (.aload_n 0, 1) := dk_42 (dk_at dksX4_lays_2_2 22 rfl rfl)
theorem dX4_lays_2_70 : decode cX4_lays_2 70 = .ok (.getfield 81, 3) := dk_180 0 81 (dk_at dksX4_lays_2_3 0 rfl rfl)
theorem dX4_lays_2_73 : decode cX4_lays_2 73 = .ok (.iload_n 2, 1) := dk_28 (dk_at dksX4_lays_2_3 3 rfl rfl)
theorem dX4_lays_2_74 : decode cX4_lays_2 74 = .ok (.iload 5, 2) := dk_21 5 (dk_at dksX4_lays_2_3 4 rfl rfl)
theorem dX4_lays_2_76 : decode cX4_lays_2 76 = .ok (.iadd, 1) := dk_96 (dk_at dksX4_lays_2_3 6 rfl rfl)
theorem dX4_lays_2_77 : decode cX4_lays_2 77 = .ok (.iaload, 1) := dk_46 (dk_at dksX4_lays_2_3 7 rfl rfl)
theorem dX4_lays_2_78 : decode cX4_lays_2 78 = .ok (.invokevirtual 193, 3) := dk_182 0 193 (dk_at dksX4_lays_2_3 8 rfl rfl)
theorem dX4_lays_2_81 : decode cX4_lays_2 81 = .ok (.iinc 5 1, 3) := dk_132 5 1 (dk_at dksX4_lays_2_3 11 rfl rfl)
theorem dX4_lays_2_84 : decode cX4_lays_2 84 = .ok (.goto (-27), 3) := dk_167 255 229 (dk_at dksX4_lays_2_3 14 rfl rfl)
theorem dX4_lays_2_87 : decode cX4_lays_2 87 = .ok (.return_, 1) := dk_177 (dk_at dksX4_lays_2_3 17 rfl rfl)
def dkwX4_makes_6 : List UInt8 := [79, 177]
abbrev dktX4_makes_6 : List UInt8 := dkwX4_makes_6 ++ []
def dkwX4_makes_5 : List UInt8 := [42, 180, 0, 184, 79, 42, 89, 180, 0, 184, 4, 96, 181, 0, 184, 42, 180, 0, 66, 27, 92, 46, 4, 96]
abbrev dktX4_makes_5 : List UInt8 := dkwX4_makes_5 ++ dktX4_makes_6
def dkwX4_makes_4 : List UInt8 := [180, 0, 75, 29, 42, 180, 0, 96, 80, 42, 180, 0, 78, 29, 42, 180, 0, 100, 80, 42, 180, 0, 69, 29]
abbrev dktX4_makes_4 : List UInt8 := dkwX4_makes_4 ++ dktX4_makes_5
def dkwX4_makes_3 : List UInt8 := [42, 22, 4, 22, 6, 42, 180, 0, 96, 42, 180, 0, 100, 182, 0, 152, 42, 180, 0, 72, 29, 28, 79, 42]
abbrev dktX4_makes_3 : List UInt8 := dkwX4_makes_3 ++ dktX4_makes_4
def dkwX4_makes_2 : List UInt8 := [5, 112, 154, 0, 22, 42, 42, 180, 0, 96, 42, 180, 0, 100, 22, 4, 22, 6, 182, 0, 152, 167, 0, 19]
abbrev dktX4_makes_2 : List UInt8 := dkwX4_makes_2 ++ dktX4_makes_3
def dkwX4_makes_1 : List UInt8 := [158, 0, 64, 42, 180, 0, 75, 29, 4, 100, 47, 55, 4, 42, 180, 0, 78, 29, 4, 100, 47, 55, 6, 27]
abbrev dktX4_makes_1 : List UInt8 := dkwX4_makes_1 ++ dktX4_makes_2
def dkwX4_makes_0 : List UInt8 := [27, 42, 180, 0, 66, 27, 46, 184, 0, 178, 62, 42, 28, 182, 0, 148, 42, 180, 0, 66, 27, 46]
abbrev dktX4_makes_0 : List UInt8 := dkwX4_makes_0 ++ dktX4_makes_1
theorem dksX4_makes_0 : cX4_makes.data.toList.drop 0 = dktX4_makes_0 := by decide +kernel
theorem dksX4_makes_1 : cX4_makes.data.toList.drop 22 = dktX4_makes_1 := dk_seg dksX4_makes_0 22 rfl rfl
theorem dksX4_makes_2 : cX4_makes.data.toList.drop 46 = dktX4_makes_2 := dk_seg dksX4_makes_1 24 rfl rfl
theorem dksX4_makes_3 : cX4_makes.data.toList.drop 70 = dktX4_makes_3 := dk_seg dksX4_makes_2 24 rfl rfl
theorem dksX4_makes_4 : cX4_makes.data.toList.drop 94 = dktX4_makes_4 := dk_seg dksX4_makes_3 24 rfl rfl
theorem dksX4_makes_5 : cX4_makes.data.toList.drop 118 = dktX4_makes_5 := dk_seg dksX4_makes_4 24 rfl rfl
theorem dksX4_makes_6 : cX4_makes.data.toList.drop 142 = dktX4_makes_6 := dk_seg dksX4_makes_5 24 rfl rfl
theorem dX4_makes_0 : decode cX4_makes 0 = .ok (.iload_n 1, 1) := dk_27 (dk_at dksX4_makes_0 0 rfl rfl)
theorem dX4_makes_1 : decode cX4_makes 1 = .ok (.aload_n 0, 1) := dk_42 (dk_at dksX4_makes_0 1 rfl rfl)
theorem dX4_makes_2 : decode cX4_makes 2 = .ok (.getfield 66, 3) := dk_180 0 66 (dk_at dksX4_makes_0 2 rfl rfl)
theorem dX4_makes_5 : decode cX4_makes 5 = .ok (.iload_n 1, 1) := dk_27 (dk_at dksX4_makes_0 5 rfl rfl)
theorem dX4_makes_6 : decode cX4_makes 6 = .ok (.iaload, 1) := dk_46 (dk_at dksX4_makes_0 6 rfl rfl)
theorem dX4_makes_7 : decode cX4_makes 7 = .ok (.invokestatic 178, 3) := dk_184 0 178 (dk_at dksX4_makes_0 7 rfl rfl)
theorem dX4_makes_10 : decode cX4_makes 10 = .ok (.istore_n 3, 1) := dk_62 (dk_at dksX4_makes_0 10 rfl rfl)
theorem dX4_makes_11 : decode cX4_makes 11 = .ok (.aload_n 0, 1) := dk_42 (dk_at dksX4_makes_0 11 rfl rfl)
theorem dX4_makes_12 : decode cX4_makes 12 = .ok (.iload_n 2, 1) := dk_28 (dk_at dksX4_makes_0 12 rfl rfl)
theorem dX4_makes_13 : decode cX4_makes 13 = .ok (.invokevirtual 148, 3) := dk_182 0 148 (dk_at dksX4_makes_0 13 rfl rfl)
theorem dX4_makes_16 : decode cX4_makes 16 = .ok (.aload_n 0, 1) := dk_42 (dk_at dksX4_makes_0 16 rfl rfl)
theorem dX4_makes_17 : decode cX4_makes 17 = .ok (.getfield 66, 3) := dk_180 0 66 (dk_at dksX4_makes_0 17 rfl rfl)
theorem dX4_makes_20 : decode cX4_makes 20 = .ok (.iload_n 1, 1) := dk_27 (dk_at dksX4_makes_0 20 rfl rfl)
theorem dX4_makes_21 : decode cX4_makes 21 = .ok (.iaload, 1) := dk_46 (dk_at dksX4_makes_0 21 rfl rfl)
theorem dX4_makes_22 : decode cX4_makes 22 = .ok (.ifCond .le 64, 3) := dk_158 0 64 (dk_at dksX4_makes_1 0 rfl rfl)
theorem dX4_makes_25 : decode cX4_makes 25 = .ok (.aload_n 0, 1) := dk_42 (dk_at dksX4_makes_1 3 rfl rfl)
theorem dX4_makes_26 : decode cX4_makes 26 = .ok (.getfield 75, 3) := dk_180 0 75 (dk_at dksX4_makes_1 4 rfl rfl)
theorem dX4_makes_29 : decode cX4_makes 29 = .ok (.iload_n 3, 1) := dk_29 (dk_at dksX4_makes_1 7 rfl rfl)
theorem dX4_makes_30 : decode cX4_makes 30 = .ok (.iconst 1, 1) := dk_4 (dk_at dksX4_makes_1 8 rfl rfl)
theorem dX4_makes_31 : decode cX4_makes 31 = .ok (.isub, 1) := dk_100 (dk_at dksX4_makes_1 9 rfl rfl)
theorem dX4_makes_32 : decode cX4_makes 32 = .ok (.laload, 1) := dk_47 (dk_at dksX4_makes_1 10 rfl rfl)
theorem dX4_makes_33 : decode cX4_makes 33 = .ok (.lstore 4, 2) := dk_55 4 (dk_at dksX4_makes_1 11 rfl rfl)
theorem dX4_makes_35 : decode cX4_makes 35 = .ok (.aload_n 0, 1) := dk_42 (dk_at dksX4_makes_1 13 rfl rfl)
theorem dX4_makes_36 : decode cX4_makes 36 = .ok (.getfield 78, 3) := dk_180 0 78 (dk_at dksX4_makes_1 14 rfl rfl)
theorem dX4_makes_39 : decode cX4_makes 39 = .ok (.iload_n 3, 1) := dk_29 (dk_at dksX4_makes_1 17 rfl rfl)
theorem dX4_makes_40 : decode cX4_makes 40 = .ok (.iconst 1, 1) := dk_4 (dk_at dksX4_makes_1 18 rfl rfl)
theorem dX4_makes_41 : decode cX4_makes 41 = .ok (.isub, 1) := dk_100 (dk_at dksX4_makes_1 19 rfl rfl)
theorem dX4_makes_42 : decode cX4_makes 42 = .ok (.laload, 1) := dk_47 (dk_at dksX4_makes_1 20 rfl rfl)
theorem dX4_makes_43 : decode cX4_makes 43 = .ok (.lstore 6, 2) := dk_55 6 (dk_at dksX4_makes_1 21 rfl rfl)
theorem dX4_makes_45 : decode cX4_makes 45 = .ok (.iload_n 1, 1) := dk_27 (dk_at dksX4_makes_1 23 rfl rfl)
theorem dX4_makes_46 : decode cX4_makes 46 = .ok (.iconst 2, 1) := dk_5 (dk_at dksX4_makes_2 0 rfl rfl)
theorem dX4_makes_47 : decode cX4_makes 47 = .ok (.irem, 1) := dk_112 (dk_at dksX4_makes_2 1 rfl rfl)
theorem dX4_makes_48 : decode cX4_makes 48 = .ok (.ifCond .ne 22, 3) := dk_154 0 22 (dk_at dksX4_makes_2 2 rfl rfl)
theorem dX4_makes_51 : decode cX4_makes 51 = .ok (.aload_n 0, 1) := dk_42 (dk_at dksX4_makes_2 5 rfl rfl)
theorem dX4_makes_52 : decode cX4_makes 52 = .ok (.aload_n 0, 1) := dk_42 (dk_at dksX4_makes_2 6 rfl rfl)
theorem dX4_makes_53 : decode cX4_makes 53 = .ok (.getfield 96, 3) := dk_180 0 96 (dk_at dksX4_makes_2 7 rfl rfl)
theorem dX4_makes_56 : decode cX4_makes 56 = .ok (.aload_n 0, 1) := dk_42 (dk_at dksX4_makes_2 10 rfl rfl)
theorem dX4_makes_57 : decode cX4_makes 57 = .ok (.getfield 100, 3) := dk_180 0 100 (dk_at dksX4_makes_2 11 rfl rfl)
theorem dX4_makes_60 : decode cX4_makes 60 = .ok (.lload 4, 2) := dk_22 4 (dk_at dksX4_makes_2 14 rfl rfl)
theorem dX4_makes_62 : decode cX4_makes 62 = .ok (.lload 6, 2) := dk_22 6 (dk_at dksX4_makes_2 16 rfl rfl)
theorem dX4_makes_64 : decode cX4_makes 64 = .ok (.invokevirtual 152, 3) := dk_182 0 152 (dk_at dksX4_makes_2 18 rfl rfl)
theorem dX4_makes_67 : decode cX4_makes 67 = .ok (.goto 19, 3) := dk_167 0 19 (dk_at dksX4_makes_2 21 rfl rfl)
theorem dX4_makes_70 : decode cX4_makes 70 = .ok (.aload_n 0, 1) := dk_42 (dk_at dksX4_makes_3 0 rfl rfl)
theorem dX4_makes_71 : decode cX4_makes 71 = .ok (.lload 4, 2) := dk_22 4 (dk_at dksX4_makes_3 1 rfl rfl)
theorem dX4_makes_73 : decode cX4_makes 73 = .ok (.lload 6, 2) := dk_22 6 (dk_at dksX4_makes_3 3 rfl rfl)
theorem dX4_makes_75 : decode cX4_makes 75 = .ok (.aload_n 0, 1) := dk_42 (dk_at dksX4_makes_3 5 rfl rfl)
theorem dX4_makes_76 : decode cX4_makes 76 = .ok (.getfield 96, 3) := dk_180 0 96 (dk_at dksX4_makes_3 6 rfl rfl)
theorem dX4_makes_79 : decode cX4_makes 79 = .ok (.aload_n 0, 1) := dk_42 (dk_at dksX4_makes_3 9 rfl rfl)
theorem dX4_makes_80 : decode cX4_makes 80 = .ok (.getfield 100, 3) := dk_180 0 100 (dk_at dksX4_makes_3 10 rfl rfl)
theorem dX4_makes_83 : decode cX4_makes 83 = .ok (.invokevirtual 152, 3) := dk_182 0 152 (dk_at dksX4_makes_3 13 rfl rfl)
theorem dX4_makes_86 : decode cX4_makes 86 = .ok (.aload_n 0, 1) := dk_42 (dk_at dksX4_makes_3 16 rfl rfl)
theorem dX4_makes_87 : decode cX4_makes 87 = .ok (.getfield 72, 3) := dk_180 0 72 (dk_at dksX4_makes_3 17 rfl rfl)
theorem dX4_makes_90 : decode cX4_makes 90 = .ok (.iload_n 3, 1) := dk_29 (dk_at dksX4_makes_3 20 rfl rfl)
theorem dX4_makes_91 : decode cX4_makes 91 = .ok (.iload_n 2, 1) := dk_28 (dk_at dksX4_makes_3 21 rfl rfl)
theorem dX4_makes_92 : decode cX4_makes 92 = .ok (.iastore, 1) := dk_79 (dk_at dksX4_makes_3 22 rfl rfl)
theorem dX4_makes_93 : decode cX4_makes 93 = .ok (.aload_n 0, 1) := dk_42 (dk_at dksX4_makes_3 23 rfl rfl)
theorem dX4_makes_94 : decode cX4_makes 94 = .ok (.getfield 75, 3) := dk_180 0 75 (dk_at dksX4_makes_4 0 rfl rfl)
theorem dX4_makes_97 : decode cX4_makes 97 = .ok (.iload_n 3, 1) := dk_29 (dk_at dksX4_makes_4 3 rfl rfl)
theorem dX4_makes_98 : decode cX4_makes 98 = .ok (.aload_n 0, 1) := dk_42 (dk_at dksX4_makes_4 4 rfl rfl)
theorem dX4_makes_99 : decode cX4_makes 99 = .ok (.getfield 96, 3) := dk_180 0 96 (dk_at dksX4_makes_4 5 rfl rfl)
theorem dX4_makes_102 : decode cX4_makes 102 = .ok (.lastore, 1) := dk_80 (dk_at dksX4_makes_4 8 rfl rfl)
theorem dX4_makes_103 : decode cX4_makes 103 = .ok (.aload_n 0, 1) := dk_42 (dk_at dksX4_makes_4 9 rfl rfl)
theorem dX4_makes_104 : decode cX4_makes 104 = .ok (.getfield 78, 3) := dk_180 0 78 (dk_at dksX4_makes_4 10 rfl rfl)
theorem dX4_makes_107 : decode cX4_makes 107 = .ok (.iload_n 3, 1) := dk_29 (dk_at dksX4_makes_4 13 rfl rfl)
theorem dX4_makes_108 : decode cX4_makes 108 = .ok (.aload_n 0, 1) := dk_42 (dk_at dksX4_makes_4 14 rfl rfl)
theorem dX4_makes_109 : decode cX4_makes 109 = .ok (.getfield 100, 3) := dk_180 0 100 (dk_at dksX4_makes_4 15 rfl rfl)
theorem dX4_makes_112 : decode cX4_makes 112 = .ok (.lastore, 1) := dk_80 (dk_at dksX4_makes_4 18 rfl rfl)
theorem dX4_makes_113 : decode cX4_makes 113 = .ok (.aload_n 0, 1) := dk_42 (dk_at dksX4_makes_4 19 rfl rfl)
theorem dX4_makes_114 : decode cX4_makes 114 = .ok (.getfield 69, 3) := dk_180 0 69 (dk_at dksX4_makes_4 20 rfl rfl)
theorem dX4_makes_117 : decode cX4_makes 117 = .ok (.iload_n 3, 1) := dk_29 (dk_at dksX4_makes_4 23 rfl rfl)
theorem dX4_makes_118 : decode cX4_makes 118 = .ok (.aload_n 0, 1) := dk_42 (dk_at dksX4_makes_5 0 rfl rfl)
theorem dX4_makes_119 : decode cX4_makes 119 = .ok (.getfield 184, 3) := dk_180 0 184 (dk_at dksX4_makes_5 1 rfl rfl)
theorem dX4_makes_122 : decode cX4_makes 122 = .ok (.iastore, 1) := dk_79 (dk_at dksX4_makes_5 4 rfl rfl)
theorem dX4_makes_123 : decode cX4_makes 123 = .ok (.aload_n 0, 1) := dk_42 (dk_at dksX4_makes_5 5 rfl rfl)
theorem dX4_makes_124 : decode cX4_makes 124 = .ok (.dup, 1) := dk_89 (dk_at dksX4_makes_5 6 rfl rfl)
theorem dX4_makes_125 : decode cX4_makes 125 = .ok (.getfield 184, 3) := dk_180 0 184 (dk_at dksX4_makes_5 7 rfl rfl)
theorem dX4_makes_128 : decode cX4_makes 128 = .ok (.iconst 1, 1) := dk_4 (dk_at dksX4_makes_5 10 rfl rfl)
theorem dX4_makes_129 : decode cX4_makes 129 = .ok (.iadd, 1) := dk_96 (dk_at dksX4_makes_5 11 rfl rfl)
theorem dX4_makes_130 : decode cX4_makes 130 = .ok (.putfield 184, 3) := dk_181 0 184 (dk_at dksX4_makes_5 12 rfl rfl)
theorem dX4_makes_133 : decode cX4_makes 133 = .ok (.aload_n 0, 1) := dk_42 (dk_at dksX4_makes_5 15 rfl rfl)
theorem dX4_makes_134 : decode cX4_makes 134 = .ok (.getfield 66, 3) := dk_180 0 66 (dk_at dksX4_makes_5 16 rfl rfl)
theorem dX4_makes_137 : decode cX4_makes 137 = .ok (.iload_n 1, 1) := dk_27 (dk_at dksX4_makes_5 19 rfl rfl)
theorem dX4_makes_138 : decode cX4_makes 138 = .ok (.dup2, 1) := dk_92 (dk_at dksX4_makes_5 20 rfl rfl)
theorem dX4_makes_139 : decode cX4_makes 139 = .ok (.iaload, 1) := dk_46 (dk_at dksX4_makes_5 21 rfl rfl)
theorem dX4_makes_140 : decode cX4_makes 140 = .ok (.iconst 1, 1) := dk_4 (dk_at dksX4_makes_5 22 rfl rfl)
theorem dX4_makes_141 : decode cX4_makes 141 = .ok (.iadd, 1) := dk_96 (dk_at dksX4_makes_5 23 rfl rfl)
theorem dX4_makes_142 : decode cX4_makes 142 = .ok (.iastore, 1) := dk_79 (dk_at dksX4_makes_6 0 rfl rfl)
theorem dX4_makes_143 : decode cX4_makes 143 = .ok (.return_, 1) := dk_177 (dk_at dksX4_makes_6 1 rfl rfl)
def dkwX4_table_5 : List UInt8 := [180, 0, 93, 16, 7, 160, 0, 7, 42, 182, 0, 207, 42, 180, 0, 45, 172]
abbrev dktX4_table_5 : List UInt8 := dkwX4_table_5 ++ []
def dkwX4_table_4 : List UInt8 := [162, 0, 21, 42, 180, 0, 48, 28, 42, 180, 0, 84, 28, 46, 79, 132, 2, 1, 167, 255, 228, 42]
abbrev dktX4_table_4 : List UInt8 := dkwX4_table_4 ++ dktX4_table_5
def dkwX4_table_3 : List UInt8 := [42, 180, 0, 210, 181, 0, 45, 42, 27, 181, 0, 111, 3, 61, 28, 42, 180, 0, 45, 42, 180, 0, 45, 104]
abbrev dktX4_table_3 : List UInt8 := dkwX4_table_3 ++ dktX4_table_4
def dkwX4_table_2 : List UInt8 := [182, 0, 234, 154, 0, 9, 132, 1, 1, 167, 255, 237, 27, 42, 180, 0, 210, 160, 0, 6, 16, 245, 172, 42]
abbrev dktX4_table_2 : List UInt8 := dkwX4_table_2 ++ dktX4_table_3
def dkwX4_table_1 : List UInt8 := [42, 182, 0, 231, 153, 0, 6, 16, 246, 172, 3, 60, 27, 42, 180, 0, 210, 162, 0, 17, 42, 27]
abbrev dktX4_table_1 : List UInt8 := dkwX4_table_1 ++ dktX4_table_2
def dkwX4_table_0 : List UInt8 := [42, 3, 181, 0, 1, 42, 182, 0, 225, 42, 182, 0, 228, 154, 0, 11, 16, 235, 42, 180, 0, 28, 100, 172]
abbrev dktX4_table_0 : List UInt8 := dkwX4_table_0 ++ dktX4_table_1
theorem dksX4_table_0 : cX4_table.data.toList.drop 0 = dktX4_table_0 := by decide +kernel
theorem dksX4_table_1 : cX4_table.data.toList.drop 24 = dktX4_table_1 := dk_seg dksX4_table_0 24 rfl rfl
theorem dksX4_table_2 : cX4_table.data.toList.drop 46 = dktX4_table_2 := dk_seg dksX4_table_1 22 rfl rfl
theorem dksX4_table_3 : cX4_table.data.toList.drop 70 = dktX4_table_3 := dk_seg dksX4_table_2 24 rfl rfl
theorem dksX4_table_4 : cX4_table.data.toList.drop 94 = dktX4_table_4 := dk_seg dksX4_table_3 24 rfl rfl
theorem dksX4_table_5 : cX4_table.data.toList.drop 116 = dktX4_table_5 := dk_seg dksX4_table_4 22 rfl rfl
theorem dX4_table_0 : decode cX4_table 0 = .ok (.aload_n 0, 1) := dk_42 (dk_at dksX4_table_0 0 rfl rfl)
theorem dX4_table_1 : decode cX4_table 1 = .ok (.iconst 0, 1) := dk_3 (dk_at dksX4_table_0 1 rfl rfl)
theorem dX4_table_2 : decode cX4_table 2 = .ok (.putfield 1, 3) := dk_181 0 1 (dk_at dksX4_table_0 2 rfl rfl)
theorem dX4_table_5 : decode cX4_table 5 = .ok (.aload_n 0, 1) := dk_42 (dk_at dksX4_table_0 5 rfl rfl)
theorem dX4_table_6 : decode cX4_table 6 = .ok (.invokevirtual 225, 3) := dk_182 0 225 (dk_at dksX4_table_0 6 rfl rfl)
theorem dX4_table_9 : decode cX4_table 9 = .ok (.aload_n 0, 1) := dk_42 (dk_at dksX4_table_0 9 rfl rfl)
theorem dX4_table_10 : decode cX4_table 10 = .ok (.invokevirtual 228, 3) := dk_182 0 228 (dk_at dksX4_table_0 10 rfl rfl)
theorem dX4_table_13 : decode cX4_table 13 = .ok (.ifCond .ne 11, 3) := dk_154 0 11 (dk_at dksX4_table_0 13 rfl rfl)
theorem dX4_table_16 : decode cX4_table 16 = .ok (.bipush (-21), 2) := dk_16 235 (dk_at dksX4_table_0 16 rfl rfl)
theorem dX4_table_18 : decode cX4_table 18 = .ok (.aload_n 0, 1) := dk_42 (dk_at dksX4_table_0 18 rfl rfl)
theorem dX4_table_19 : decode cX4_table 19 = .ok (.getfield 28, 3) := dk_180 0 28 (dk_at dksX4_table_0 19 rfl rfl)
theorem dX4_table_22 : decode cX4_table 22 = .ok (.isub, 1) := dk_100 (dk_at dksX4_table_0 22 rfl rfl)
theorem dX4_table_23 : decode cX4_table 23 = .ok (.ireturn, 1) := dk_172 (dk_at dksX4_table_0 23 rfl rfl)
theorem dX4_table_24 : decode cX4_table 24 = .ok (.aload_n 0, 1) := dk_42 (dk_at dksX4_table_1 0 rfl rfl)
theorem dX4_table_25 : decode cX4_table 25 = .ok (.invokevirtual 231, 3) := dk_182 0 231 (dk_at dksX4_table_1 1 rfl rfl)
theorem dX4_table_28 : decode cX4_table 28 = .ok (.ifCond .eq 6, 3) := dk_153 0 6 (dk_at dksX4_table_1 4 rfl rfl)
theorem dX4_table_31 : decode cX4_table 31 = .ok (.bipush (-10), 2) := dk_16 246 (dk_at dksX4_table_1 7 rfl rfl)
theorem dX4_table_33 : decode cX4_table 33 = .ok (.ireturn, 1) := dk_172 (dk_at dksX4_table_1 9 rfl rfl)
theorem dX4_table_34 : decode cX4_table 34 = .ok (.iconst 0, 1) := dk_3 (dk_at dksX4_table_1 10 rfl rfl)
theorem dX4_table_35 : decode cX4_table 35 = .ok (.istore_n 1, 1) := dk_60 (dk_at dksX4_table_1 11 rfl rfl)
theorem dX4_table_36 : decode cX4_table 36 = .ok (.iload_n 1, 1) := dk_27 (dk_at dksX4_table_1 12 rfl rfl)
theorem dX4_table_37 : decode cX4_table 37 = .ok (.aload_n 0, 1) := dk_42 (dk_at dksX4_table_1 13 rfl rfl)
theorem dX4_table_38 : decode cX4_table 38 = .ok (.getfield 210, 3) := dk_180 0 210 (dk_at dksX4_table_1 14 rfl rfl)
theorem dX4_table_41 : decode cX4_table 41 = .ok (.if_icmp .ge 17, 3) := dk_162 0 17 (dk_at dksX4_table_1 17 rfl rfl)
theorem dX4_table_44 : decode cX4_table 44 = .ok (.aload_n 0, 1) := dk_42 (dk_at dksX4_table_1 20 rfl rfl)
theorem dX4_table_45 : decode cX4_table 45 = .ok (.iload_n 1, 1) := dk_27 (dk_at dksX4_table_1 21 rfl rfl)
theorem dX4_table_46 : decode cX4_table 46 = .ok (.invokevirtual 234, 3) := dk_182 0 234 (dk_at dksX4_table_2 0 rfl rfl)
theorem dX4_table_49 : decode cX4_table 49 = .ok (.ifCond .ne 9, 3) := dk_154 0 9 (dk_at dksX4_table_2 3 rfl rfl)
theorem dX4_table_52 : decode cX4_table 52 = .ok (.iinc 1 1, 3) := dk_132 1 1 (dk_at dksX4_table_2 6 rfl rfl)
theorem dX4_table_55 : decode cX4_table 55 = .ok (.goto (-19), 3) := dk_167 255 237 (dk_at dksX4_table_2 9 rfl rfl)
theorem dX4_table_58 : decode cX4_table 58 = .ok (.iload_n 1, 1) := dk_27 (dk_at dksX4_table_2 12 rfl rfl)
theorem dX4_table_59 : decode cX4_table 59 = .ok (.aload_n 0, 1) := dk_42 (dk_at dksX4_table_2 13 rfl rfl)
theorem dX4_table_60 : decode cX4_table 60 = .ok (.getfield 210, 3) := dk_180 0 210 (dk_at dksX4_table_2 14 rfl rfl)
theorem dX4_table_63 : decode cX4_table 63 = .ok (.if_icmp .ne 6, 3) := dk_160 0 6 (dk_at dksX4_table_2 17 rfl rfl)
theorem dX4_table_66 : decode cX4_table 66 = .ok (.bipush (-11), 2) := dk_16 245 (dk_at dksX4_table_2 20 rfl rfl)
theorem dX4_table_68 : decode cX4_table 68 = .ok (.ireturn, 1) := dk_172 (dk_at dksX4_table_2 22 rfl rfl)
theorem dX4_table_69 : decode cX4_table 69 = .ok (.aload_n 0, 1) := dk_42 (dk_at dksX4_table_2 23 rfl rfl)
theorem dX4_table_70 : decode cX4_table 70 = .ok (.aload_n 0, 1) := dk_42 (dk_at dksX4_table_3 0 rfl rfl)
theorem dX4_table_71 : decode cX4_table 71 = .ok (.getfield 210, 3) := dk_180 0 210 (dk_at dksX4_table_3 1 rfl rfl)
theorem dX4_table_74 : decode cX4_table 74 = .ok (.putfield 45, 3) := dk_181 0 45 (dk_at dksX4_table_3 4 rfl rfl)
theorem dX4_table_77 : decode cX4_table 77 = .ok (.aload_n 0, 1) := dk_42 (dk_at dksX4_table_3 7 rfl rfl)
theorem dX4_table_78 : decode cX4_table 78 = .ok (.iload_n 1, 1) := dk_27 (dk_at dksX4_table_3 8 rfl rfl)
theorem dX4_table_79 : decode cX4_table 79 = .ok (.putfield 111, 3) := dk_181 0 111 (dk_at dksX4_table_3 9 rfl rfl)
theorem dX4_table_82 : decode cX4_table 82 = .ok (.iconst 0, 1) := dk_3 (dk_at dksX4_table_3 12 rfl rfl)
theorem dX4_table_83 : decode cX4_table 83 = .ok (.istore_n 2, 1) := dk_61 (dk_at dksX4_table_3 13 rfl rfl)
theorem dX4_table_84 : decode cX4_table 84 = .ok (.iload_n 2, 1) := dk_28 (dk_at dksX4_table_3 14 rfl rfl)
theorem dX4_table_85 : decode cX4_table 85 = .ok (.aload_n 0, 1) := dk_42 (dk_at dksX4_table_3 15 rfl rfl)
theorem dX4_table_86 : decode cX4_table 86 = .ok (.getfield 45, 3) := dk_180 0 45 (dk_at dksX4_table_3 16 rfl rfl)
theorem dX4_table_89 : decode cX4_table 89 = .ok (.aload_n 0, 1) := dk_42 (dk_at dksX4_table_3 19 rfl rfl)
theorem dX4_table_90 : decode cX4_table 90 = .ok (.getfield 45, 3) := dk_180 0 45 (dk_at dksX4_table_3 20 rfl rfl)
theorem dX4_table_93 : decode cX4_table 93 = .ok (.imul, 1) := dk_104 (dk_at dksX4_table_3 23 rfl rfl)
theorem dX4_table_94 : decode cX4_table 94 = .ok (.if_icmp .ge 21, 3) := dk_162 0 21 (dk_at dksX4_table_4 0 rfl rfl)
theorem dX4_table_97 : decode cX4_table 97 = .ok (.aload_n 0, 1) := dk_42 (dk_at dksX4_table_4 3 rfl rfl)
theorem dX4_table_98 : decode cX4_table 98 = .ok (.getfield 48, 3) := dk_180 0 48 (dk_at dksX4_table_4 4 rfl rfl)
theorem dX4_table_101 : decode cX4_table 101 = .ok (.iload_n 2, 1) := dk_28 (dk_at dksX4_table_4 7 rfl rfl)
theorem dX4_table_102 : decode cX4_table 102 = .ok (.aload_n 0, 1) := dk_42 (dk_at dksX4_table_4 8 rfl rfl)
theorem dX4_table_103 : decode cX4_table 103 = .ok (.getfield 84, 3) := dk_180 0 84 (dk_at dksX4_table_4 9 rfl rfl)
theorem dX4_table_106 : decode cX4_table 106 = .ok (.iload_n 2, 1) := dk_28 (dk_at dksX4_table_4 12 rfl rfl)
theorem dX4_table_107 : decode cX4_table 107 = .ok (.iaload, 1) := dk_46 (dk_at dksX4_table_4 13 rfl rfl)
theorem dX4_table_108 : decode cX4_table 108 = .ok (.iastore, 1) := dk_79 (dk_at dksX4_table_4 14 rfl rfl)
theorem dX4_table_109 : decode cX4_table 109 = .ok (.iinc 2 1, 3) := dk_132 2 1 (dk_at dksX4_table_4 15 rfl rfl)
theorem dX4_table_112 : decode cX4_table 112 = .ok (.goto (-28), 3) := dk_167 255 228 (dk_at dksX4_table_4 18 rfl rfl)
theorem dX4_table_115 : decode cX4_table 115 = .ok (.aload_n 0, 1) := dk_42 (dk_at dksX4_table_4 21 rfl rfl)
theorem dX4_table_116 : decode cX4_table 116 = .ok (.getfield 93, 3) := dk_180 0 93 (dk_at dksX4_table_5 0 rfl rfl)
theorem dX4_table_119 : decode cX4_table 119 = .ok (.bipush 7, 2) := dk_16 7 (dk_at dksX4_table_5 3 rfl rfl)
theorem dX4_table_121 : decode cX4_table 121 = .ok (.if_icmp .ne 7, 3) := dk_160 0 7 (dk_at dksX4_table_5 5 rfl rfl)
theorem dX4_table_124 : decode cX4_table 124 = .ok (.aload_n 0, 1) := dk_42 (dk_at dksX4_table_5 8 rfl rfl)
theorem dX4_table_125 : decode cX4_table 125 = .ok (.invokevirtual 207, 3) := dk_182 0 207 (dk_at dksX4_table_5 9 rfl rfl)
theorem dX4_table_128 : decode cX4_table 128 = .ok (.aload_n 0, 1) := dk_42 (dk_at dksX4_table_5 12 rfl rfl)
theorem dX4_table_129 : decode cX4_table 129 = .ok (.getfield 45, 3) := dk_180 0 45 (dk_at dksX4_table_5 13 rfl rfl)
theorem dX4_table_132 : decode cX4_table 132 = .ok (.ireturn, 1) := dk_172 (dk_at dksX4_table_5 16 rfl rfl)
def dkwX4_reads_0 : List UInt8 := [42, 42, 180, 0, 14, 181, 0, 25, 42, 3, 181, 0, 14, 42, 3, 181, 0, 28, 177]
abbrev dktX4_reads_0 : List UInt8 := dkwX4_reads_0 ++ []
theorem dksX4_reads_0 : cX4_reads.data.toList.drop 0 = dktX4_reads_0 := by decide +kernel
theorem dX4_reads_0 : decode cX4_reads 0 = .ok (.aload_n 0, 1) := dk_42 (dk_at dksX4_reads_0 0 rfl rfl)
theorem dX4_reads_1 : decode cX4_reads 1 = .ok (.aload_n 0, 1) := dk_42 (dk_at dksX4_reads_0 1 rfl rfl)
theorem dX4_reads_2 : decode cX4_reads 2 = .ok (.getfield 14, 3) := dk_180 0 14 (dk_at dksX4_reads_0 2 rfl rfl)
theorem dX4_reads_5 : decode cX4_reads 5 = .ok (.putfield 25, 3) := dk_181 0 25 (dk_at dksX4_reads_0 5 rfl rfl)
theorem dX4_reads_8 : decode cX4_reads 8 = .ok (.aload_n 0, 1) := dk_42 (dk_at dksX4_reads_0 8 rfl rfl)
theorem dX4_reads_9 : decode cX4_reads 9 = .ok (.iconst 0, 1) := dk_3 (dk_at dksX4_reads_0 9 rfl rfl)
theorem dX4_reads_10 : decode cX4_reads 10 = .ok (.putfield 14, 3) := dk_181 0 14 (dk_at dksX4_reads_0 10 rfl rfl)
theorem dX4_reads_13 : decode cX4_reads 13 = .ok (.aload_n 0, 1) := dk_42 (dk_at dksX4_reads_0 13 rfl rfl)
theorem dX4_reads_14 : decode cX4_reads 14 = .ok (.iconst 0, 1) := dk_3 (dk_at dksX4_reads_0 14 rfl rfl)
theorem dX4_reads_15 : decode cX4_reads 15 = .ok (.putfield 28, 3) := dk_181 0 28 (dk_at dksX4_reads_0 15 rfl rfl)
theorem dX4_reads_18 : decode cX4_reads 18 = .ok (.return_, 1) := dk_177 (dk_at dksX4_reads_0 18 rfl rfl)
def dkwX4_readsTable_8 : List UInt8 := [167, 0, 4, 3, 172]
abbrev dktX4_readsTable_8 : List UInt8 := dkwX4_readsTable_8 ++ []
def dkwX4_readsTable_7 : List UInt8 := [132, 2, 1, 167, 255, 182, 132, 1, 1, 167, 255, 151, 42, 180, 0, 28, 42, 180, 0, 25, 160, 0, 7, 4]
abbrev dktX4_readsTable_7 : List UInt8 := dkwX4_readsTable_7 ++ dktX4_readsTable_8
def dkwX4_readsTable_6 : List UInt8 := [42, 180, 0, 17, 42, 180, 0, 28, 46, 16, 48, 100, 79, 42, 89, 180, 0, 28, 4, 96, 181, 0, 28]
abbrev dktX4_readsTable_6 : List UInt8 := dkwX4_readsTable_6 ++ dktX4_readsTable_7
def dkwX4_readsTable_5 : List UInt8 := [16, 48, 100, 42, 180, 0, 210, 161, 0, 5, 3, 172, 42, 180, 0, 84, 42, 180, 0, 210, 27, 104, 28, 96]
abbrev dktX4_readsTable_5 : List UInt8 := dkwX4_readsTable_5 ++ dktX4_readsTable_6
def dkwX4_readsTable_4 : List UInt8 := [42, 180, 0, 210, 162, 0, 72, 42, 182, 0, 218, 153, 0, 22, 42, 180, 0, 17, 42, 180, 0, 28, 46]
abbrev dktX4_readsTable_4 : List UInt8 := dkwX4_readsTable_4 ++ dktX4_readsTable_5
def dkwX4_readsTable_3 : List UInt8 := [180, 0, 210, 162, 0, 103, 27, 158, 0, 14, 42, 16, 47, 182, 0, 215, 154, 0, 5, 3, 172, 3, 61, 28]
abbrev dktX4_readsTable_3 : List UInt8 := dkwX4_readsTable_3 ++ dktX4_readsTable_4
def dkwX4_readsTable_2 : List UInt8 := [180, 0, 210, 4, 96, 181, 0, 210, 167, 255, 205, 42, 180, 0, 210, 154, 0, 5, 3, 172, 3, 60, 27, 42]
abbrev dktX4_readsTable_2 : List UInt8 := dkwX4_readsTable_2 ++ dktX4_readsTable_3
def dkwX4_readsTable_1 : List UInt8 := [42, 180, 0, 17, 42, 180, 0, 210, 46, 133, 20, 0, 35, 20, 0, 213, 184, 0, 21, 153, 0, 16, 42, 89]
abbrev dktX4_readsTable_1 : List UInt8 := dkwX4_readsTable_1 ++ dktX4_readsTable_2
def dkwX4_readsTable_0 : List UInt8 := [42, 3, 181, 0, 210, 42, 180, 0, 210, 8, 162, 0, 49, 42, 180, 0, 210, 42, 180, 0, 25, 162, 0, 38]
abbrev dktX4_readsTable_0 : List UInt8 := dkwX4_readsTable_0 ++ dktX4_readsTable_1
theorem dksX4_readsTable_0 : cX4_readsTable.data.toList.drop 0 = dktX4_readsTable_0 := by decide +kernel
theorem dksX4_readsTable_1 : cX4_readsTable.data.toList.drop 24 = dktX4_readsTable_1 := dk_seg dksX4_readsTable_0 24 rfl rfl
theorem dksX4_readsTable_2 : cX4_readsTable.data.toList.drop 48 = dktX4_readsTable_2 := dk_seg dksX4_readsTable_1 24 rfl rfl
theorem dksX4_readsTable_3 : cX4_readsTable.data.toList.drop 72 = dktX4_readsTable_3 := dk_seg dksX4_readsTable_2 24 rfl rfl
theorem dksX4_readsTable_4 : cX4_readsTable.data.toList.drop 96 = dktX4_readsTable_4 := dk_seg dksX4_readsTable_3 24 rfl rfl
theorem dksX4_readsTable_5 : cX4_readsTable.data.toList.drop 119 = dktX4_readsTable_5 := dk_seg dksX4_readsTable_4 23 rfl rfl
theorem dksX4_readsTable_6 : cX4_readsTable.data.toList.drop 143 = dktX4_readsTable_6 := dk_seg dksX4_readsTable_5 24 rfl rfl
theorem dksX4_readsTable_7 : cX4_readsTable.data.toList.drop 166 = dktX4_readsTable_7 := dk_seg dksX4_readsTable_6 23 rfl rfl
theorem dksX4_readsTable_8 : cX4_readsTable.data.toList.drop 190 = dktX4_readsTable_8 := dk_seg dksX4_readsTable_7 24 rfl rfl
theorem dX4_readsTable_0 : decode cX4_readsTable 0 = .ok (.aload_n 0, 1) := dk_42 (dk_at dksX4_readsTable_0 0 rfl rfl)
theorem dX4_readsTable_1 : decode cX4_readsTable 1 = .ok (.iconst 0, 1) := dk_3 (dk_at dksX4_readsTable_0 1 rfl rfl)
theorem dX4_readsTable_2 : decode cX4_readsTable 2 = .ok (.putfield 210, 3) := dk_181 0 210 (dk_at dksX4_readsTable_0 2 rfl rfl)
theorem dX4_readsTable_5 : decode cX4_readsTable 5 = .ok (.aload_n 0, 1) := dk_42 (dk_at dksX4_readsTable_0 5 rfl rfl)
theorem dX4_readsTable_6 : decode cX4_readsTable 6 = .ok (.getfield 210, 3) := dk_180 0 210 (dk_at dksX4_readsTable_0 6 rfl rfl)
theorem dX4_readsTable_9 : decode cX4_readsTable 9 = .ok (.iconst 5, 1) := dk_8 (dk_at dksX4_readsTable_0 9 rfl rfl)
theorem dX4_readsTable_10 : decode cX4_readsTable 10 = .ok (.if_icmp .ge 49, 3) := dk_162 0 49 (dk_at dksX4_readsTable_0 10 rfl rfl)
theorem dX4_readsTable_13 : decode cX4_readsTable 13 = .ok (.aload_n 0, 1) := dk_42 (dk_at dksX4_readsTable_0 13 rfl rfl)
theorem dX4_readsTable_14 : decode cX4_readsTable 14 = .ok (.getfield 210, 3) := dk_180 0 210 (dk_at dksX4_readsTable_0 14 rfl rfl)
theorem dX4_readsTable_17 : decode cX4_readsTable 17 = .ok (.aload_n 0, 1) := dk_42 (dk_at dksX4_readsTable_0 17 rfl rfl)
theorem dX4_readsTable_18 : decode cX4_readsTable 18 = .ok (.getfield 25, 3) := dk_180 0 25 (dk_at dksX4_readsTable_0 18 rfl rfl)
theorem dX4_readsTable_21 : decode cX4_readsTable 21 = .ok (.if_icmp .ge 38, 3) := dk_162 0 38 (dk_at dksX4_readsTable_0 21 rfl rfl)
theorem dX4_readsTable_24 : decode cX4_readsTable 24 = .ok (.aload_n 0, 1) := dk_42 (dk_at dksX4_readsTable_1 0 rfl rfl)
theorem dX4_readsTable_25 : decode cX4_readsTable 25 = .ok (.getfield 17, 3) := dk_180 0 17 (dk_at dksX4_readsTable_1 1 rfl rfl)
theorem dX4_readsTable_28 : decode cX4_readsTable 28 = .ok (.aload_n 0, 1) := dk_42 (dk_at dksX4_readsTable_1 4 rfl rfl)
theorem dX4_readsTable_29 : decode cX4_readsTable 29 = .ok (.getfield 210, 3) := dk_180 0 210 (dk_at dksX4_readsTable_1 5 rfl rfl)
theorem dX4_readsTable_32 : decode cX4_readsTable 32 = .ok (.iaload, 1) := dk_46 (dk_at dksX4_readsTable_1 8 rfl rfl)
theorem dX4_readsTable_33 : decode cX4_readsTable 33 = .ok (.i2l, 1) := dk_133 (dk_at dksX4_readsTable_1 9 rfl rfl)
theorem dX4_readsTable_34 : decode cX4_readsTable 34 = .ok (.ldc2_w 35, 3) := dk_20 0 35 (dk_at dksX4_readsTable_1 10 rfl rfl)
theorem dX4_readsTable_37 : decode cX4_readsTable 37 = .ok (.ldc2_w 213, 3) := dk_20 0 213 (dk_at dksX4_readsTable_1 13 rfl rfl)
theorem dX4_readsTable_40 : decode cX4_readsTable 40 = .ok (.invokestatic 21, 3) := dk_184 0 21 (dk_at dksX4_readsTable_1 16 rfl rfl)
theorem dX4_readsTable_43 : decode cX4_readsTable 43 = .ok (.ifCond .eq 16, 3) := dk_153 0 16 (dk_at dksX4_readsTable_1 19 rfl rfl)
theorem dX4_readsTable_46 : decode cX4_readsTable 46 = .ok (.aload_n 0, 1) := dk_42 (dk_at dksX4_readsTable_1 22 rfl rfl)
theorem dX4_readsTable_47 : decode cX4_readsTable 47 = .ok (.dup, 1) := dk_89 (dk_at dksX4_readsTable_1 23 rfl rfl)
theorem dX4_readsTable_48 : decode cX4_readsTable 48 = .ok (.getfield 210, 3) := dk_180 0 210 (dk_at dksX4_readsTable_2 0 rfl rfl)
theorem dX4_readsTable_51 : decode cX4_readsTable 51 = .ok (.iconst 1, 1) := dk_4 (dk_at dksX4_readsTable_2 3 rfl rfl)
theorem dX4_readsTable_52 : decode cX4_readsTable 52 = .ok (.iadd, 1) := dk_96 (dk_at dksX4_readsTable_2 4 rfl rfl)
theorem dX4_readsTable_53 : decode cX4_readsTable 53 = .ok (.putfield 210, 3) := dk_181 0 210 (dk_at dksX4_readsTable_2 5 rfl rfl)
theorem dX4_readsTable_56 : decode cX4_readsTable 56 = .ok (.goto (-51), 3) := dk_167 255 205 (dk_at dksX4_readsTable_2 8 rfl rfl)
theorem dX4_readsTable_59 : decode cX4_readsTable 59 = .ok (.aload_n 0, 1) := dk_42 (dk_at dksX4_readsTable_2 11 rfl rfl)
theorem dX4_readsTable_60 : decode cX4_readsTable 60 = .ok (.getfield 210, 3) := dk_180 0 210 (dk_at dksX4_readsTable_2 12 rfl rfl)
theorem dX4_readsTable_63 : decode cX4_readsTable 63 = .ok (.ifCond .ne 5, 3) := dk_154 0 5 (dk_at dksX4_readsTable_2 15 rfl rfl)
theorem dX4_readsTable_66 : decode cX4_readsTable 66 = .ok (.iconst 0, 1) := dk_3 (dk_at dksX4_readsTable_2 18 rfl rfl)
theorem dX4_readsTable_67 : decode cX4_readsTable 67 = .ok (.ireturn, 1) := dk_172 (dk_at dksX4_readsTable_2 19 rfl rfl)
theorem dX4_readsTable_68 : decode cX4_readsTable 68 = .ok (.iconst 0, 1) := dk_3 (dk_at dksX4_readsTable_2 20 rfl rfl)
theorem dX4_readsTable_69 : decode cX4_readsTable 69 = .ok (.istore_n 1, 1) := dk_60 (dk_at dksX4_readsTable_2 21 rfl rfl)
theorem dX4_readsTable_70 : decode cX4_readsTable 70 = .ok (.iload_n 1, 1) := dk_27 (dk_at dksX4_readsTable_2 22 rfl rfl)
theorem dX4_readsTable_71 : decode cX4_readsTable 71 = .ok (.aload_n 0, 1) := dk_42 (dk_at dksX4_readsTable_2 23 rfl rfl)
theorem dX4_readsTable_72 : decode cX4_readsTable 72 = .ok (.getfield 210, 3) := dk_180 0 210 (dk_at dksX4_readsTable_3 0 rfl rfl)
theorem dX4_readsTable_75 : decode cX4_readsTable 75 = .ok (.if_icmp .ge 103, 3) := dk_162 0 103 (dk_at dksX4_readsTable_3 3 rfl rfl)
theorem dX4_readsTable_78 : decode cX4_readsTable 78 = .ok (.iload_n 1, 1) := dk_27 (dk_at dksX4_readsTable_3 6 rfl rfl)
theorem dX4_readsTable_79 : decode cX4_readsTable 79 = .ok (.ifCond .le 14, 3) := dk_158 0 14 (dk_at dksX4_readsTable_3 7 rfl rfl)
theorem dX4_readsTable_82 : decode cX4_readsTable 82 = .ok (.aload_n 0, 1) := dk_42 (dk_at dksX4_readsTable_3 10 rfl rfl)
theorem dX4_readsTable_83 : decode cX4_readsTable 83 = .ok (.bipush 47, 2) := dk_16 47 (dk_at dksX4_readsTable_3 11 rfl rfl)
theorem dX4_readsTable_85 : decode cX4_readsTable 85 = .ok (.invokevirtual 215, 3) := dk_182 0 215 (dk_at dksX4_readsTable_3 13 rfl rfl)
theorem dX4_readsTable_88 : decode cX4_readsTable 88 = .ok (.ifCond .ne 5, 3) := dk_154 0 5 (dk_at dksX4_readsTable_3 16 rfl rfl)
theorem dX4_readsTable_91 : decode cX4_readsTable 91 = .ok (.iconst 0, 1) := dk_3 (dk_at dksX4_readsTable_3 19 rfl rfl)
theorem dX4_readsTable_92 : decode cX4_readsTable 92 = .ok (.ireturn, 1) := dk_172 (dk_at dksX4_readsTable_3 20 rfl rfl)
theorem dX4_readsTable_93 : decode cX4_readsTable 93 = .ok (.iconst 0, 1) := dk_3 (dk_at dksX4_readsTable_3 21 rfl rfl)
theorem dX4_readsTable_94 : decode cX4_readsTable 94 = .ok (.istore_n 2, 1) := dk_61 (dk_at dksX4_readsTable_3 22 rfl rfl)
theorem dX4_readsTable_95 : decode cX4_readsTable 95 = .ok (.iload_n 2, 1) := dk_28 (dk_at dksX4_readsTable_3 23 rfl rfl)
theorem dX4_readsTable_96 : decode cX4_readsTable 96 = .ok (.aload_n 0, 1) := dk_42 (dk_at dksX4_readsTable_4 0 rfl rfl)
theorem dX4_readsTable_97 : decode cX4_readsTable 97 = .ok (.getfield 210, 3) := dk_180 0 210 (dk_at dksX4_readsTable_4 1 rfl rfl)
theorem dX4_readsTable_100 : decode cX4_readsTable 100 = .ok (.if_icmp .ge 72, 3) := dk_162 0 72 (dk_at dksX4_readsTable_4 4 rfl rfl)
theorem dX4_readsTable_103 : decode cX4_readsTable 103 = .ok (.aload_n 0, 1) := dk_42 (dk_at dksX4_readsTable_4 7 rfl rfl)
theorem dX4_readsTable_104 : decode cX4_readsTable 104 = .ok (.invokevirtual 218, 3) := dk_182 0 218 (dk_at dksX4_readsTable_4 8 rfl rfl)
theorem dX4_readsTable_107 : decode cX4_readsTable 107 = .ok (.ifCond .eq 22, 3) := dk_153 0 22 (dk_at dksX4_readsTable_4 11 rfl rfl)
theorem dX4_readsTable_110 : decode cX4_readsTable 110 = .ok (.aload_n 0, 1) := dk_42 (dk_at dksX4_readsTable_4 14 rfl rfl)
theorem dX4_readsTable_111 : decode cX4_readsTable 111 = .ok (.getfield 17, 3) := dk_180 0 17 (dk_at dksX4_readsTable_4 15 rfl rfl)
theorem dX4_readsTable_114 : decode cX4_readsTable 114 = .ok (.aload_n 0, 1) := dk_42 (dk_at dksX4_readsTable_4 18 rfl rfl)
theorem dX4_readsTable_115 : decode cX4_readsTable 115 = .ok (.getfield 28, 3) := dk_180 0 28 (dk_at dksX4_readsTable_4 19 rfl rfl)
theorem dX4_readsTable_118 : decode cX4_readsTable 118 = .ok (.iaload, 1) := dk_46 (dk_at dksX4_readsTable_4 22 rfl rfl)
theorem dX4_readsTable_119 : decode cX4_readsTable 119 = .ok (.bipush 48, 2) := dk_16 48 (dk_at dksX4_readsTable_5 0 rfl rfl)
theorem dX4_readsTable_121 : decode cX4_readsTable 121 = .ok (.isub, 1) := dk_100 (dk_at dksX4_readsTable_5 2 rfl rfl)
theorem dX4_readsTable_122 : decode cX4_readsTable 122 = .ok (.aload_n 0, 1) := dk_42 (dk_at dksX4_readsTable_5 3 rfl rfl)
theorem dX4_readsTable_123 : decode cX4_readsTable 123 = .ok (.getfield 210, 3) := dk_180 0 210 (dk_at dksX4_readsTable_5 4 rfl rfl)
theorem dX4_readsTable_126 : decode cX4_readsTable 126 = .ok (.if_icmp .lt 5, 3) := dk_161 0 5 (dk_at dksX4_readsTable_5 7 rfl rfl)
theorem dX4_readsTable_129 : decode cX4_readsTable 129 = .ok (.iconst 0, 1) := dk_3 (dk_at dksX4_readsTable_5 10 rfl rfl)
theorem dX4_readsTable_130 : decode cX4_readsTable 130 = .ok (.ireturn, 1) := dk_172 (dk_at dksX4_readsTable_5 11 rfl rfl)
theorem dX4_readsTable_131 : decode cX4_readsTable 131 = .ok (.aload_n 0, 1) := dk_42 (dk_at dksX4_readsTable_5 12 rfl rfl)
theorem dX4_readsTable_132 : decode cX4_readsTable 132 = .ok (.getfield 84, 3) := dk_180 0 84 (dk_at dksX4_readsTable_5 13 rfl rfl)
theorem dX4_readsTable_135 : decode cX4_readsTable 135 = .ok (.aload_n 0, 1) := dk_42 (dk_at dksX4_readsTable_5 16 rfl rfl)
theorem dX4_readsTable_136 : decode cX4_readsTable 136 = .ok (.getfield 210, 3) := dk_180 0 210 (dk_at dksX4_readsTable_5 17 rfl rfl)
theorem dX4_readsTable_139 : decode cX4_readsTable 139 = .ok (.iload_n 1, 1) := dk_27 (dk_at dksX4_readsTable_5 20 rfl rfl)
theorem dX4_readsTable_140 : decode cX4_readsTable 140 = .ok (.imul, 1) := dk_104 (dk_at dksX4_readsTable_5 21 rfl rfl)
theorem dX4_readsTable_141 : decode cX4_readsTable 141 = .ok (.iload_n 2, 1) := dk_28 (dk_at dksX4_readsTable_5 22 rfl rfl)
theorem dX4_readsTable_142 : decode cX4_readsTable 142 = .ok (.iadd, 1) := dk_96 (dk_at dksX4_readsTable_5 23 rfl rfl)
theorem dX4_readsTable_143 : decode cX4_readsTable 143 = .ok (.aload_n 0, 1) := dk_42 (dk_at dksX4_readsTable_6 0 rfl rfl)
theorem dX4_readsTable_144 : decode cX4_readsTable 144 = .ok (.getfield 17, 3) := dk_180 0 17 (dk_at dksX4_readsTable_6 1 rfl rfl)
theorem dX4_readsTable_147 : decode cX4_readsTable 147 = .ok (.aload_n 0, 1) := dk_42 (dk_at dksX4_readsTable_6 4 rfl rfl)
theorem dX4_readsTable_148 : decode cX4_readsTable 148 = .ok (.getfield 28, 3) := dk_180 0 28 (dk_at dksX4_readsTable_6 5 rfl rfl)
theorem dX4_readsTable_151 : decode cX4_readsTable 151 = .ok (.iaload, 1) := dk_46 (dk_at dksX4_readsTable_6 8 rfl rfl)
theorem dX4_readsTable_152 : decode cX4_readsTable 152 = .ok (.bipush 48, 2) := dk_16 48 (dk_at dksX4_readsTable_6 9 rfl rfl)
theorem dX4_readsTable_154 : decode cX4_readsTable 154 = .ok (.isub, 1) := dk_100 (dk_at dksX4_readsTable_6 11 rfl rfl)
theorem dX4_readsTable_155 : decode cX4_readsTable 155 = .ok (.iastore, 1) := dk_79 (dk_at dksX4_readsTable_6 12 rfl rfl)
theorem dX4_readsTable_156 : decode cX4_readsTable 156 = .ok (.aload_n 0, 1) := dk_42 (dk_at dksX4_readsTable_6 13 rfl rfl)
theorem dX4_readsTable_157 : decode cX4_readsTable 157 = .ok (.dup, 1) := dk_89 (dk_at dksX4_readsTable_6 14 rfl rfl)
theorem dX4_readsTable_158 : decode cX4_readsTable 158 = .ok (.getfield 28, 3) := dk_180 0 28 (dk_at dksX4_readsTable_6 15 rfl rfl)
theorem dX4_readsTable_161 : decode cX4_readsTable 161 = .ok (.iconst 1, 1) := dk_4 (dk_at dksX4_readsTable_6 18 rfl rfl)
theorem dX4_readsTable_162 : decode cX4_readsTable 162 = .ok (.iadd, 1) := dk_96 (dk_at dksX4_readsTable_6 19 rfl rfl)
theorem dX4_readsTable_163 : decode cX4_readsTable 163 = .ok (.putfield 28, 3) := dk_181 0 28 (dk_at dksX4_readsTable_6 20 rfl rfl)
theorem dX4_readsTable_166 : decode cX4_readsTable 166 = .ok (.iinc 2 1, 3) := dk_132 2 1 (dk_at dksX4_readsTable_7 0 rfl rfl)
theorem dX4_readsTable_169 : decode cX4_readsTable 169 = .ok (.goto (-74), 3) := dk_167 255 182 (dk_at dksX4_readsTable_7 3 rfl rfl)
theorem dX4_readsTable_172 : decode cX4_readsTable 172 = .ok (.iinc 1 1, 3) := dk_132 1 1 (dk_at dksX4_readsTable_7 6 rfl rfl)
theorem dX4_readsTable_175 : decode cX4_readsTable 175 = .ok (.goto (-105), 3) := dk_167 255 151 (dk_at dksX4_readsTable_7 9 rfl rfl)
theorem dX4_readsTable_178 : decode cX4_readsTable 178 = .ok (.aload_n 0, 1) := dk_42 (dk_at dksX4_readsTable_7 12 rfl rfl)
theorem dX4_readsTable_179 : decode cX4_readsTable 179 = .ok (.getfield 28, 3) := dk_180 0 28 (dk_at dksX4_readsTable_7 13 rfl rfl)
theorem dX4_readsTable_182 : decode cX4_readsTable 182 = .ok (.aload_n 0, 1) := dk_42 (dk_at dksX4_readsTable_7 16 rfl rfl)
theorem dX4_readsTable_183 : decode cX4_readsTable 183 = .ok (.getfield 25, 3) := dk_180 0 25 (dk_at dksX4_readsTable_7 17 rfl rfl)
theorem dX4_readsTable_186 : decode cX4_readsTable 186 = .ok (.if_icmp .ne 7, 3) := dk_160 0 7 (dk_at dksX4_readsTable_7 20 rfl rfl)
theorem dX4_readsTable_189 : decode cX4_readsTable 189 = .ok (.iconst 1, 1) := dk_4 (dk_at dksX4_readsTable_7 23 rfl rfl)
theorem dX4_readsTable_190 : decode cX4_readsTable 190 = .ok (.goto 4, 3) := dk_167 0 4 (dk_at dksX4_readsTable_8 0 rfl rfl)
theorem dX4_readsTable_193 : decode cX4_readsTable 193 = .ok (.iconst 0, 1) := dk_3 (dk_at dksX4_readsTable_8 3 rfl rfl)
theorem dX4_readsTable_194 : decode cX4_readsTable 194 = .ok (.ireturn, 1) := dk_172 (dk_at dksX4_readsTable_8 4 rfl rfl)
def dkwX4_takesSign_1 : List UInt8 := [4, 167, 0, 4, 3, 61, 42, 89, 180, 0, 28, 28, 184, 0, 31, 96, 181, 0, 28, 28, 172]
abbrev dktX4_takesSign_1 : List UInt8 := dkwX4_takesSign_1 ++ []
def dkwX4_takesSign_0 : List UInt8 := [42, 180, 0, 28, 42, 180, 0, 25, 162, 0, 20, 42, 180, 0, 17, 42, 180, 0, 28, 46, 27, 160, 0, 7]
abbrev dktX4_takesSign_0 : List UInt8 := dkwX4_takesSign_0 ++ dktX4_takesSign_1
theorem dksX4_takesSign_0 : cX4_takesSign.data.toList.drop 0 = dktX4_takesSign_0 := by decide +kernel
theorem dksX4_takesSign_1 : cX4_takesSign.data.toList.drop 24 = dktX4_takesSign_1 := dk_seg dksX4_takesSign_0 24 rfl rfl
theorem dX4_takesSign_0 : decode cX4_takesSign 0 = .ok (.aload_n 0, 1) := dk_42 (dk_at dksX4_takesSign_0 0 rfl rfl)
theorem dX4_takesSign_1 : decode cX4_takesSign 1 = .ok (.getfield 28, 3) := dk_180 0 28 (dk_at dksX4_takesSign_0 1 rfl rfl)
theorem dX4_takesSign_4 : decode cX4_takesSign 4 = .ok (.aload_n 0, 1) := dk_42 (dk_at dksX4_takesSign_0 4 rfl rfl)
theorem dX4_takesSign_5 : decode cX4_takesSign 5 = .ok (.getfield 25, 3) := dk_180 0 25 (dk_at dksX4_takesSign_0 5 rfl rfl)
theorem dX4_takesSign_8 : decode cX4_takesSign 8 = .ok (.if_icmp .ge 20, 3) := dk_162 0 20 (dk_at dksX4_takesSign_0 8 rfl rfl)
theorem dX4_takesSign_11 : decode cX4_takesSign 11 = .ok (.aload_n 0, 1) := dk_42 (dk_at dksX4_takesSign_0 11 rfl rfl)
theorem dX4_takesSign_12 : decode cX4_takesSign 12 = .ok (.getfield 17, 3) := dk_180 0 17 (dk_at dksX4_takesSign_0 12 rfl rfl)
theorem dX4_takesSign_15 : decode cX4_takesSign 15 = .ok (.aload_n 0, 1) := dk_42 (dk_at dksX4_takesSign_0 15 rfl rfl)
theorem dX4_takesSign_16 : decode cX4_takesSign 16 = .ok (.getfield 28, 3) := dk_180 0 28 (dk_at dksX4_takesSign_0 16 rfl rfl)
theorem dX4_takesSign_19 : decode cX4_takesSign 19 = .ok (.iaload, 1) := dk_46 (dk_at dksX4_takesSign_0 19 rfl rfl)
theorem dX4_takesSign_20 : decode cX4_takesSign 20 = .ok (.iload_n 1, 1) := dk_27 (dk_at dksX4_takesSign_0 20 rfl rfl)
theorem dX4_takesSign_21 : decode cX4_takesSign 21 = .ok (.if_icmp .ne 7, 3) := dk_160 0 7 (dk_at dksX4_takesSign_0 21 rfl rfl)
theorem dX4_takesSign_24 : decode cX4_takesSign 24 = .ok (.iconst 1, 1) := dk_4 (dk_at dksX4_takesSign_1 0 rfl rfl)
theorem dX4_takesSign_25 : decode cX4_takesSign 25 = .ok (.goto 4, 3) := dk_167 0 4 (dk_at dksX4_takesSign_1 1 rfl rfl)
theorem dX4_takesSign_28 : decode cX4_takesSign 28 = .ok (.iconst 0, 1) := dk_3 (dk_at dksX4_takesSign_1 4 rfl rfl)
theorem dX4_takesSign_29 : decode cX4_takesSign 29 = .ok (.istore_n 2, 1) := dk_61 (dk_at dksX4_takesSign_1 5 rfl rfl)
theorem dX4_takesSign_30 : decode cX4_takesSign 30 = .ok (.aload_n 0, 1) := dk_42 (dk_at dksX4_takesSign_1 6 rfl rfl)
theorem dX4_takesSign_31 : decode cX4_takesSign 31 = .ok (.dup, 1) := dk_89 (dk_at dksX4_takesSign_1 7 rfl rfl)
theorem dX4_takesSign_32 : decode cX4_takesSign 32 = .ok (.getfield 28, 3) := dk_180 0 28 (dk_at dksX4_takesSign_1 8 rfl rfl)
theorem dX4_takesSign_35 : decode cX4_takesSign 35 = .ok (.iload_n 2, 1) := dk_28 (dk_at dksX4_takesSign_1 11 rfl rfl)
theorem dX4_takesSign_36 : decode cX4_takesSign 36 = .ok (.invokestatic 31, 3) := dk_184 0 31 (dk_at dksX4_takesSign_1 12 rfl rfl)
theorem dX4_takesSign_39 : decode cX4_takesSign 39 = .ok (.iadd, 1) := dk_96 (dk_at dksX4_takesSign_1 15 rfl rfl)
theorem dX4_takesSign_40 : decode cX4_takesSign 40 = .ok (.putfield 28, 3) := dk_181 0 28 (dk_at dksX4_takesSign_1 16 rfl rfl)
theorem dX4_takesSign_43 : decode cX4_takesSign 43 = .ok (.iload_n 2, 1) := dk_28 (dk_at dksX4_takesSign_1 19 rfl rfl)
theorem dX4_takesSign_44 : decode cX4_takesSign 44 = .ok (.ireturn, 1) := dk_172 (dk_at dksX4_takesSign_1 20 rfl rfl)
def dkwX4_isDigit_1 : List UInt8 := [20, 0, 37, 184, 0, 21, 153, 0, 7, 4, 167, 0, 4, 3, 172]
abbrev dktX4_isDigit_1 : List UInt8 := dkwX4_isDigit_1 ++ []
def dkwX4_isDigit_0 : List UInt8 := [42, 180, 0, 28, 42, 180, 0, 25, 162, 0, 29, 42, 180, 0, 17, 42, 180, 0, 28, 46, 133, 20, 0, 35]
abbrev dktX4_isDigit_0 : List UInt8 := dkwX4_isDigit_0 ++ dktX4_isDigit_1
theorem dksX4_isDigit_0 : cX4_isDigit.data.toList.drop 0 = dktX4_isDigit_0 := by decide +kernel
theorem dksX4_isDigit_1 : cX4_isDigit.data.toList.drop 24 = dktX4_isDigit_1 := dk_seg dksX4_isDigit_0 24 rfl rfl
theorem dX4_isDigit_0 : decode cX4_isDigit 0 = .ok (.aload_n 0, 1) := dk_42 (dk_at dksX4_isDigit_0 0 rfl rfl)
theorem dX4_isDigit_1 : decode cX4_isDigit 1 = .ok (.getfield 28, 3) := dk_180 0 28 (dk_at dksX4_isDigit_0 1 rfl rfl)
theorem dX4_isDigit_4 : decode cX4_isDigit 4 = .ok (.aload_n 0, 1) := dk_42 (dk_at dksX4_isDigit_0 4 rfl rfl)
theorem dX4_isDigit_5 : decode cX4_isDigit 5 = .ok (.getfield 25, 3) := dk_180 0 25 (dk_at dksX4_isDigit_0 5 rfl rfl)
theorem dX4_isDigit_8 : decode cX4_isDigit 8 = .ok (.if_icmp .ge 29, 3) := dk_162 0 29 (dk_at dksX4_isDigit_0 8 rfl rfl)
theorem dX4_isDigit_11 : decode cX4_isDigit 11 = .ok (.aload_n 0, 1) := dk_42 (dk_at dksX4_isDigit_0 11 rfl rfl)
theorem dX4_isDigit_12 : decode cX4_isDigit 12 = .ok (.getfield 17, 3) := dk_180 0 17 (dk_at dksX4_isDigit_0 12 rfl rfl)
theorem dX4_isDigit_15 : decode cX4_isDigit 15 = .ok (.aload_n 0, 1) := dk_42 (dk_at dksX4_isDigit_0 15 rfl rfl)
theorem dX4_isDigit_16 : decode cX4_isDigit 16 = .ok (.getfield 28, 3) := dk_180 0 28 (dk_at dksX4_isDigit_0 16 rfl rfl)
theorem dX4_isDigit_19 : decode cX4_isDigit 19 = .ok (.iaload, 1) := dk_46 (dk_at dksX4_isDigit_0 19 rfl rfl)
theorem dX4_isDigit_20 : decode cX4_isDigit 20 = .ok (.i2l, 1) := dk_133 (dk_at dksX4_isDigit_0 20 rfl rfl)
theorem dX4_isDigit_21 : decode cX4_isDigit 21 = .ok (.ldc2_w 35, 3) := dk_20 0 35 (dk_at dksX4_isDigit_0 21 rfl rfl)
theorem dX4_isDigit_24 : decode cX4_isDigit 24 = .ok (.ldc2_w 37, 3) := dk_20 0 37 (dk_at dksX4_isDigit_1 0 rfl rfl)
theorem dX4_isDigit_27 : decode cX4_isDigit 27 = .ok (.invokestatic 21, 3) := dk_184 0 21 (dk_at dksX4_isDigit_1 3 rfl rfl)
theorem dX4_isDigit_30 : decode cX4_isDigit 30 = .ok (.ifCond .eq 7, 3) := dk_153 0 7 (dk_at dksX4_isDigit_1 6 rfl rfl)
theorem dX4_isDigit_33 : decode cX4_isDigit 33 = .ok (.iconst 1, 1) := dk_4 (dk_at dksX4_isDigit_1 9 rfl rfl)
theorem dX4_isDigit_34 : decode cX4_isDigit 34 = .ok (.goto 4, 3) := dk_167 0 4 (dk_at dksX4_isDigit_1 10 rfl rfl)
theorem dX4_isDigit_37 : decode cX4_isDigit 37 = .ok (.iconst 0, 1) := dk_3 (dk_at dksX4_isDigit_1 13 rfl rfl)
theorem dX4_isDigit_38 : decode cX4_isDigit 38 = .ok (.ireturn, 1) := dk_172 (dk_at dksX4_isDigit_1 14 rfl rfl)
def dkwX4_hasUnlike_4 : List UInt8 := [132, 1, 1, 167, 255, 163, 3, 172]
abbrev dktX4_hasUnlike_4 : List UInt8 := dkwX4_hasUnlike_4 ++ []
def dkwX4_hasUnlike_3 : List UInt8 := [182, 0, 164, 42, 29, 133, 182, 0, 164, 4, 172, 132, 3, 1, 167, 255, 195, 132, 2, 1, 167, 255, 179]
abbrev dktX4_hasUnlike_3 : List UInt8 := dkwX4_hasUnlike_3 ++ dktX4_hasUnlike_4
def dkwX4_hasUnlike_2 : List UInt8 := [182, 0, 222, 182, 0, 222, 159, 0, 28, 42, 3, 181, 0, 11, 42, 27, 133, 182, 0, 164, 42, 28, 133]
abbrev dktX4_hasUnlike_2 : List UInt8 := dkwX4_hasUnlike_2 ++ dktX4_hasUnlike_3
def dkwX4_hasUnlike_1 : List UInt8 := [180, 0, 210, 162, 0, 59, 42, 42, 27, 28, 182, 0, 222, 29, 182, 0, 222, 42, 27, 42, 28, 29]
abbrev dktX4_hasUnlike_1 : List UInt8 := dkwX4_hasUnlike_1 ++ dktX4_hasUnlike_2
def dkwX4_hasUnlike_0 : List UInt8 := [3, 60, 27, 42, 180, 0, 210, 162, 0, 91, 3, 61, 28, 42, 180, 0, 210, 162, 0, 75, 3, 62, 29, 42]
abbrev dktX4_hasUnlike_0 : List UInt8 := dkwX4_hasUnlike_0 ++ dktX4_hasUnlike_1
theorem dksX4_hasUnlike_0 : cX4_hasUnlike.data.toList.drop 0 = dktX4_hasUnlike_0 := by decide +kernel
theorem dksX4_hasUnlike_1 : cX4_hasUnlike.data.toList.drop 24 = dktX4_hasUnlike_1 := dk_seg dksX4_hasUnlike_0 24 rfl rfl
theorem dksX4_hasUnlike_2 : cX4_hasUnlike.data.toList.drop 46 = dktX4_hasUnlike_2 := dk_seg dksX4_hasUnlike_1 22 rfl rfl
theorem dksX4_hasUnlike_3 : cX4_hasUnlike.data.toList.drop 69 = dktX4_hasUnlike_3 := dk_seg dksX4_hasUnlike_2 23 rfl rfl
theorem dksX4_hasUnlike_4 : cX4_hasUnlike.data.toList.drop 92 = dktX4_hasUnlike_4 := dk_seg dksX4_hasUnlike_3 23 rfl rfl
theorem dX4_hasUnlike_0 : decode cX4_hasUnlike 0 = .ok (.iconst 0, 1) := dk_3 (dk_at dksX4_hasUnlike_0 0 rfl rfl)
theorem dX4_hasUnlike_1 : decode cX4_hasUnlike 1 = .ok (.istore_n 1, 1) := dk_60 (dk_at dksX4_hasUnlike_0 1 rfl rfl)
theorem dX4_hasUnlike_2 : decode cX4_hasUnlike 2 = .ok (.iload_n 1, 1) := dk_27 (dk_at dksX4_hasUnlike_0 2 rfl rfl)
theorem dX4_hasUnlike_3 : decode cX4_hasUnlike 3 = .ok (.aload_n 0, 1) := dk_42 (dk_at dksX4_hasUnlike_0 3 rfl rfl)
theorem dX4_hasUnlike_4 : decode cX4_hasUnlike 4 = .ok (.getfield 210, 3) := dk_180 0 210 (dk_at dksX4_hasUnlike_0 4 rfl rfl)
theorem dX4_hasUnlike_7 : decode cX4_hasUnlike 7 = .ok (.if_icmp .ge 91, 3) := dk_162 0 91 (dk_at dksX4_hasUnlike_0 7 rfl rfl)
theorem dX4_hasUnlike_10 : decode cX4_hasUnlike 10 = .ok (.iconst 0, 1) := dk_3 (dk_at dksX4_hasUnlike_0 10 rfl rfl)
theorem dX4_hasUnlike_11 : decode cX4_hasUnlike 11 = .ok (.istore_n 2, 1) := dk_61 (dk_at dksX4_hasUnlike_0 11 rfl rfl)
theorem dX4_hasUnlike_12 : decode cX4_hasUnlike 12 = .ok (.iload_n 2, 1) := dk_28 (dk_at dksX4_hasUnlike_0 12 rfl rfl)
theorem dX4_hasUnlike_13 : decode cX4_hasUnlike 13 = .ok (.aload_n 0, 1) := dk_42 (dk_at dksX4_hasUnlike_0 13 rfl rfl)
theorem dX4_hasUnlike_14 : decode cX4_hasUnlike 14 = .ok (.getfield 210, 3) := dk_180 0 210 (dk_at dksX4_hasUnlike_0 14 rfl rfl)
theorem dX4_hasUnlike_17 : decode cX4_hasUnlike 17 = .ok (.if_icmp .ge 75, 3) := dk_162 0 75 (dk_at dksX4_hasUnlike_0 17 rfl rfl)
theorem dX4_hasUnlike_20 : decode cX4_hasUnlike 20 = .ok (.iconst 0, 1) := dk_3 (dk_at dksX4_hasUnlike_0 20 rfl rfl)
theorem dX4_hasUnlike_21 : decode cX4_hasUnlike 21 = .ok (.istore_n 3, 1) := dk_62 (dk_at dksX4_hasUnlike_0 21 rfl rfl)
theorem dX4_hasUnlike_22 : decode cX4_hasUnlike 22 = .ok (.iload_n 3, 1) := dk_29 (dk_at dksX4_hasUnlike_0 22 rfl rfl)
theorem dX4_hasUnlike_23 : decode cX4_hasUnlike 23 = .ok (.aload_n 0, 1) := dk_42 (dk_at dksX4_hasUnlike_0 23 rfl rfl)
theorem dX4_hasUnlike_24 : decode cX4_hasUnlike 24 = .ok (.getfield 210, 3) := dk_180 0 210 (dk_at dksX4_hasUnlike_1 0 rfl rfl)
theorem dX4_hasUnlike_27 : decode cX4_hasUnlike 27 = .ok (.if_icmp .ge 59, 3) := dk_162 0 59 (dk_at dksX4_hasUnlike_1 3 rfl rfl)
theorem dX4_hasUnlike_30 : decode cX4_hasUnlike 30 = .ok (.aload_n 0, 1) := dk_42 (dk_at dksX4_hasUnlike_1 6 rfl rfl)
theorem dX4_hasUnlike_31 : decode cX4_hasUnlike 31 = .ok (.aload_n 0, 1) := dk_42 (dk_at dksX4_hasUnlike_1 7 rfl rfl)
theorem dX4_hasUnlike_32 : decode cX4_hasUnlike 32 = .ok (.iload_n 1, 1) := dk_27 (dk_at dksX4_hasUnlike_1 8 rfl rfl)
theorem dX4_hasUnlike_33 : decode cX4_hasUnlike 33 = .ok (.iload_n 2, 1) := dk_28 (dk_at dksX4_hasUnlike_1 9 rfl rfl)
theorem dX4_hasUnlike_34 : decode cX4_hasUnlike 34 = .ok (.invokevirtual 222, 3) := dk_182 0 222 (dk_at dksX4_hasUnlike_1 10 rfl rfl)
theorem dX4_hasUnlike_37 : decode cX4_hasUnlike 37 = .ok (.iload_n 3, 1) := dk_29 (dk_at dksX4_hasUnlike_1 13 rfl rfl)
theorem dX4_hasUnlike_38 : decode cX4_hasUnlike 38 = .ok (.invokevirtual 222, 3) := dk_182 0 222 (dk_at dksX4_hasUnlike_1 14 rfl rfl)
theorem dX4_hasUnlike_41 : decode cX4_hasUnlike 41 = .ok (.aload_n 0, 1) := dk_42 (dk_at dksX4_hasUnlike_1 17 rfl rfl)
theorem dX4_hasUnlike_42 : decode cX4_hasUnlike 42 = .ok (.iload_n 1, 1) := dk_27 (dk_at dksX4_hasUnlike_1 18 rfl rfl)
theorem dX4_hasUnlike_43 : decode cX4_hasUnlike 43 = .ok (.aload_n 0, 1) := dk_42 (dk_at dksX4_hasUnlike_1 19 rfl rfl)
theorem dX4_hasUnlike_44 : decode cX4_hasUnlike 44 = .ok (.iload_n 2, 1) := dk_28 (dk_at dksX4_hasUnlike_1 20 rfl rfl)
theorem dX4_hasUnlike_45 : decode cX4_hasUnlike 45 = .ok (.iload_n 3, 1) := dk_29 (dk_at dksX4_hasUnlike_1 21 rfl rfl)
theorem dX4_hasUnlike_46 : decode cX4_hasUnlike 46 = .ok (.invokevirtual 222, 3) := dk_182 0 222 (dk_at dksX4_hasUnlike_2 0 rfl rfl)
theorem dX4_hasUnlike_49 : decode cX4_hasUnlike 49 = .ok (.invokevirtual 222, 3) := dk_182 0 222 (dk_at dksX4_hasUnlike_2 3 rfl rfl)
theorem dX4_hasUnlike_52 : decode cX4_hasUnlike 52 = .ok (.if_icmp .eq 28, 3) := dk_159 0 28 (dk_at dksX4_hasUnlike_2 6 rfl rfl)
theorem dX4_hasUnlike_55 : decode cX4_hasUnlike 55 = .ok (.aload_n 0, 1) := dk_42 (dk_at dksX4_hasUnlike_2 9 rfl rfl)
theorem dX4_hasUnlike_56 : decode cX4_hasUnlike 56 = .ok (.iconst 0, 1) := dk_3 (dk_at dksX4_hasUnlike_2 10 rfl rfl)
theorem dX4_hasUnlike_57 : decode cX4_hasUnlike 57 = .ok (.putfield 11, 3) := dk_181 0 11 (dk_at dksX4_hasUnlike_2 11 rfl rfl)
theorem dX4_hasUnlike_60 : decode cX4_hasUnlike 60 = .ok (.aload_n 0, 1) := dk_42 (dk_at dksX4_hasUnlike_2 14 rfl rfl)
theorem dX4_hasUnlike_61 : decode cX4_hasUnlike 61 = .ok (.iload_n 1, 1) := dk_27 (dk_at dksX4_hasUnlike_2 15 rfl rfl)
theorem dX4_hasUnlike_62 : decode cX4_hasUnlike 62 = .ok (.i2l, 1) := dk_133 (dk_at dksX4_hasUnlike_2 16 rfl rfl)
theorem dX4_hasUnlike_63 : decode cX4_hasUnlike 63 = .ok (.invokevirtual 164, 3) := dk_182 0 164 (dk_at dksX4_hasUnlike_2 17 rfl rfl)
theorem dX4_hasUnlike_66 : decode cX4_hasUnlike 66 = .ok (.aload_n 0, 1) := dk_42 (dk_at dksX4_hasUnlike_2 20 rfl rfl)
theorem dX4_hasUnlike_67 : decode cX4_hasUnlike 67 = .ok (.iload_n 2, 1) := dk_28 (dk_at dksX4_hasUnlike_2 21 rfl rfl)
theorem dX4_hasUnlike_68 : decode cX4_hasUnlike 68 = .ok (.i2l, 1) := dk_133 (dk_at dksX4_hasUnlike_2 22 rfl rfl)
theorem dX4_hasUnlike_69 : decode cX4_hasUnlike 69 = .ok (.invokevirtual 164, 3) := dk_182 0 164 (dk_at dksX4_hasUnlike_3 0 rfl rfl)
theorem dX4_hasUnlike_72 : decode cX4_hasUnlike 72 = .ok (.aload_n 0, 1) := dk_42 (dk_at dksX4_hasUnlike_3 3 rfl rfl)
theorem dX4_hasUnlike_73 : decode cX4_hasUnlike 73 = .ok (.iload_n 3, 1) := dk_29 (dk_at dksX4_hasUnlike_3 4 rfl rfl)
theorem dX4_hasUnlike_74 : decode cX4_hasUnlike 74 = .ok (.i2l, 1) := dk_133 (dk_at dksX4_hasUnlike_3 5 rfl rfl)
theorem dX4_hasUnlike_75 : decode cX4_hasUnlike 75 = .ok (.invokevirtual 164, 3) := dk_182 0 164 (dk_at dksX4_hasUnlike_3 6 rfl rfl)
theorem dX4_hasUnlike_78 : decode cX4_hasUnlike 78 = .ok (.iconst 1, 1) := dk_4 (dk_at dksX4_hasUnlike_3 9 rfl rfl)
theorem dX4_hasUnlike_79 : decode cX4_hasUnlike 79 = .ok (.ireturn, 1) := dk_172 (dk_at dksX4_hasUnlike_3 10 rfl rfl)
theorem dX4_hasUnlike_80 : decode cX4_hasUnlike 80 = .ok (.iinc 3 1, 3) := dk_132 3 1 (dk_at dksX4_hasUnlike_3 11 rfl rfl)
theorem dX4_hasUnlike_83 : decode cX4_hasUnlike 83 = .ok (.goto (-61), 3) := dk_167 255 195 (dk_at dksX4_hasUnlike_3 14 rfl rfl)
theorem dX4_hasUnlike_86 : decode cX4_hasUnlike 86 = .ok (.iinc 2 1, 3) := dk_132 2 1 (dk_at dksX4_hasUnlike_3 17 rfl rfl)
theorem dX4_hasUnlike_89 : decode cX4_hasUnlike 89 = .ok (.goto (-77), 3) := dk_167 255 179 (dk_at dksX4_hasUnlike_3 20 rfl rfl)
theorem dX4_hasUnlike_92 : decode cX4_hasUnlike 92 = .ok (.iinc 1 1, 3) := dk_132 1 1 (dk_at dksX4_hasUnlike_4 0 rfl rfl)
theorem dX4_hasUnlike_95 : decode cX4_hasUnlike 95 = .ok (.goto (-93), 3) := dk_167 255 163 (dk_at dksX4_hasUnlike_4 3 rfl rfl)
theorem dX4_hasUnlike_98 : decode cX4_hasUnlike 98 = .ok (.iconst 0, 1) := dk_3 (dk_at dksX4_hasUnlike_4 6 rfl rfl)
theorem dX4_hasUnlike_99 : decode cX4_hasUnlike 99 = .ok (.ireturn, 1) := dk_172 (dk_at dksX4_hasUnlike_4 7 rfl rfl)
def dkwX4_read_0 : List UInt8 := [42, 180, 0, 84, 42, 180, 0, 210, 27, 104, 28, 96, 46, 172]
abbrev dktX4_read_0 : List UInt8 := dkwX4_read_0 ++ []
theorem dksX4_read_0 : cX4_read.data.toList.drop 0 = dktX4_read_0 := by decide +kernel
theorem dX4_read_0 : decode cX4_read 0 = .ok (.aload_n 0, 1) := dk_42 (dk_at dksX4_read_0 0 rfl rfl)
theorem dX4_read_1 : decode cX4_read 1 = .ok (.getfield 84, 3) := dk_180 0 84 (dk_at dksX4_read_0 1 rfl rfl)
theorem dX4_read_4 : decode cX4_read 4 = .ok (.aload_n 0, 1) := dk_42 (dk_at dksX4_read_0 4 rfl rfl)
theorem dX4_read_5 : decode cX4_read 5 = .ok (.getfield 210, 3) := dk_180 0 210 (dk_at dksX4_read_0 5 rfl rfl)
theorem dX4_read_8 : decode cX4_read 8 = .ok (.iload_n 1, 1) := dk_27 (dk_at dksX4_read_0 8 rfl rfl)
theorem dX4_read_9 : decode cX4_read 9 = .ok (.imul, 1) := dk_104 (dk_at dksX4_read_0 9 rfl rfl)
theorem dX4_read_10 : decode cX4_read 10 = .ok (.iload_n 2, 1) := dk_28 (dk_at dksX4_read_0 10 rfl rfl)
theorem dX4_read_11 : decode cX4_read 11 = .ok (.iadd, 1) := dk_96 (dk_at dksX4_read_0 11 rfl rfl)
theorem dX4_read_12 : decode cX4_read 12 = .ok (.iaload, 1) := dk_46 (dk_at dksX4_read_0 12 rfl rfl)
theorem dX4_read_13 : decode cX4_read 13 = .ok (.ireturn, 1) := dk_172 (dk_at dksX4_read_0 13 rfl rfl)
def dkwX4_isNeutral_2 : List UInt8 := [167, 255, 215, 28, 172]
abbrev dktX4_isNeutral_2 : List UInt8 := dkwX4_isNeutral_2 ++ []
def dkwX4_isNeutral_1 : List UInt8 := [160, 0, 17, 42, 29, 27, 182, 0, 222, 29, 160, 0, 7, 4, 167, 0, 4, 3, 61, 132, 3, 1]
abbrev dktX4_isNeutral_1 : List UInt8 := dkwX4_isNeutral_1 ++ dktX4_isNeutral_2
def dkwX4_isNeutral_0 : List UInt8 := [4, 61, 3, 62, 29, 42, 180, 0, 210, 162, 0, 39, 28, 153, 0, 27, 42, 27, 29, 182, 0, 222, 29]
abbrev dktX4_isNeutral_0 : List UInt8 := dkwX4_isNeutral_0 ++ dktX4_isNeutral_1
theorem dksX4_isNeutral_0 : cX4_isNeutral.data.toList.drop 0 = dktX4_isNeutral_0 := by decide +kernel
theorem dksX4_isNeutral_1 : cX4_isNeutral.data.toList.drop 23 = dktX4_isNeutral_1 := dk_seg dksX4_isNeutral_0 23 rfl rfl
theorem dksX4_isNeutral_2 : cX4_isNeutral.data.toList.drop 45 = dktX4_isNeutral_2 := dk_seg dksX4_isNeutral_1 22 rfl rfl
theorem dX4_isNeutral_0 : decode cX4_isNeutral 0 = .ok (.iconst 1, 1) := dk_4 (dk_at dksX4_isNeutral_0 0 rfl rfl)
theorem dX4_isNeutral_1 : decode cX4_isNeutral 1 = .ok (.istore_n 2, 1) := dk_61 (dk_at dksX4_isNeutral_0 1 rfl rfl)
theorem dX4_isNeutral_2 : decode cX4_isNeutral 2 = .ok (.iconst 0, 1) := dk_3 (dk_at dksX4_isNeutral_0 2 rfl rfl)
theorem dX4_isNeutral_3 : decode cX4_isNeutral 3 = .ok (.istore_n 3, 1) := dk_62 (dk_at dksX4_isNeutral_0 3 rfl rfl)
theorem dX4_isNeutral_4 : decode cX4_isNeutral 4 = .ok (.iload_n 3, 1) := dk_29 (dk_at dksX4_isNeutral_0 4 rfl rfl)
theorem dX4_isNeutral_5 : decode cX4_isNeutral 5 = .ok (.aload_n 0, 1) := dk_42 (dk_at dksX4_isNeutral_0 5 rfl rfl)
theorem dX4_isNeutral_6 : decode cX4_isNeutral 6 = .ok (.getfield 210, 3) := dk_180 0 210 (dk_at dksX4_isNeutral_0 6 rfl rfl)
theorem dX4_isNeutral_9 : decode cX4_isNeutral 9 = .ok (.if_icmp .ge 39, 3) := dk_162 0 39 (dk_at dksX4_isNeutral_0 9 rfl rfl)
theorem dX4_isNeutral_12 : decode cX4_isNeutral 12 = .ok (.iload_n 2, 1) := dk_28 (dk_at dksX4_isNeutral_0 12 rfl rfl)
theorem dX4_isNeutral_13 : decode cX4_isNeutral 13 = .ok (.ifCond .eq 27, 3) := dk_153 0 27 (dk_at dksX4_isNeutral_0 13 rfl rfl)
theorem dX4_isNeutral_16 : decode cX4_isNeutral 16 = .ok (.aload_n 0, 1) := dk_42 (dk_at dksX4_isNeutral_0 16 rfl rfl)
theorem dX4_isNeutral_17 : decode cX4_isNeutral 17 = .ok (.iload_n 1, 1) := dk_27 (dk_at dksX4_isNeutral_0 17 rfl rfl)
theorem dX4_isNeutral_18 : decode cX4_isNeutral 18 = .ok (.iload_n 3, 1) := dk_29 (dk_at dksX4_isNeutral_0 18 rfl rfl)
theorem dX4_isNeutral_19 : decode cX4_isNeutral 19 = .ok (.invokevirtual 222, 3) := dk_182 0 222 (dk_at dksX4_isNeutral_0 19 rfl rfl)
theorem dX4_isNeutral_22 : decode cX4_isNeutral 22 = .ok (.iload_n 3, 1) := dk_29 (dk_at dksX4_isNeutral_0 22 rfl rfl)
theorem dX4_isNeutral_23 : decode cX4_isNeutral 23 = .ok (.if_icmp .ne 17, 3) := dk_160 0 17 (dk_at dksX4_isNeutral_1 0 rfl rfl)
theorem dX4_isNeutral_26 : decode cX4_isNeutral 26 = .ok (.aload_n 0, 1) := dk_42 (dk_at dksX4_isNeutral_1 3 rfl rfl)
theorem dX4_isNeutral_27 : decode cX4_isNeutral 27 = .ok (.iload_n 3, 1) := dk_29 (dk_at dksX4_isNeutral_1 4 rfl rfl)
theorem dX4_isNeutral_28 : decode cX4_isNeutral 28 = .ok (.iload_n 1, 1) := dk_27 (dk_at dksX4_isNeutral_1 5 rfl rfl)
theorem dX4_isNeutral_29 : decode cX4_isNeutral 29 = .ok (.invokevirtual 222, 3) := dk_182 0 222 (dk_at dksX4_isNeutral_1 6 rfl rfl)
theorem dX4_isNeutral_32 : decode cX4_isNeutral 32 = .ok (.iload_n 3, 1) := dk_29 (dk_at dksX4_isNeutral_1 9 rfl rfl)
theorem dX4_isNeutral_33 : decode cX4_isNeutral 33 = .ok (.if_icmp .ne 7, 3) := dk_160 0 7 (dk_at dksX4_isNeutral_1 10 rfl rfl)
theorem dX4_isNeutral_36 : decode cX4_isNeutral 36 = .ok (.iconst 1, 1) := dk_4 (dk_at dksX4_isNeutral_1 13 rfl rfl)
theorem dX4_isNeutral_37 : decode cX4_isNeutral 37 = .ok (.goto 4, 3) := dk_167 0 4 (dk_at dksX4_isNeutral_1 14 rfl rfl)
theorem dX4_isNeutral_40 : decode cX4_isNeutral 40 = .ok (.iconst 0, 1) := dk_3 (dk_at dksX4_isNeutral_1 17 rfl rfl)
theorem dX4_isNeutral_41 : decode cX4_isNeutral 41 = .ok (.istore_n 2, 1) := dk_61 (dk_at dksX4_isNeutral_1 18 rfl rfl)
theorem dX4_isNeutral_42 : decode cX4_isNeutral 42 = .ok (.iinc 3 1, 3) := dk_132 3 1 (dk_at dksX4_isNeutral_1 19 rfl rfl)
theorem dX4_isNeutral_45 : decode cX4_isNeutral 45 = .ok (.goto (-41), 3) := dk_167 255 215 (dk_at dksX4_isNeutral_2 0 rfl rfl)
theorem dX4_isNeutral_48 : decode cX4_isNeutral 48 = .ok (.iload_n 2, 1) := dk_28 (dk_at dksX4_isNeutral_2 3 rfl rfl)
theorem dX4_isNeutral_49 : decode cX4_isNeutral 49 = .ok (.ireturn, 1) := dk_172 (dk_at dksX4_isNeutral_2 4 rfl rfl)
def dkwX4_puts_2 : List UInt8 := [29, 182, 0, 193, 42, 27, 182, 0, 187, 172]
abbrev dktX4_puts_2 : List UInt8 := dkwX4_puts_2 ++ []
def dkwX4_puts_1 : List UInt8 := [154, 0, 5, 2, 172, 42, 27, 182, 0, 187, 16, 64, 160, 0, 6, 16, 253, 172, 42, 5, 27, 104, 28, 96]
abbrev dktX4_puts_1 : List UInt8 := dkwX4_puts_1 ++ dktX4_puts_2
def dkwX4_puts_0 : List UInt8 := [42, 3, 181, 0, 1, 27, 184, 0, 237, 153, 0, 17, 28, 184, 0, 240, 153, 0, 10, 29, 184, 0, 156]
abbrev dktX4_puts_0 : List UInt8 := dkwX4_puts_0 ++ dktX4_puts_1
theorem dksX4_puts_0 : cX4_puts.data.toList.drop 0 = dktX4_puts_0 := by decide +kernel
theorem dksX4_puts_1 : cX4_puts.data.toList.drop 23 = dktX4_puts_1 := dk_seg dksX4_puts_0 23 rfl rfl
theorem dksX4_puts_2 : cX4_puts.data.toList.drop 47 = dktX4_puts_2 := dk_seg dksX4_puts_1 24 rfl rfl
theorem dX4_puts_0 : decode cX4_puts 0 = .ok (.aload_n 0, 1) := dk_42 (dk_at dksX4_puts_0 0 rfl rfl)
theorem dX4_puts_1 : decode cX4_puts 1 = .ok (.iconst 0, 1) := dk_3 (dk_at dksX4_puts_0 1 rfl rfl)
theorem dX4_puts_2 : decode cX4_puts 2 = .ok (.putfield 1, 3) := dk_181 0 1 (dk_at dksX4_puts_0 2 rfl rfl)
theorem dX4_puts_5 : decode cX4_puts 5 = .ok (.iload_n 1, 1) := dk_27 (dk_at dksX4_puts_0 5 rfl rfl)
theorem dX4_puts_6 : decode cX4_puts 6 = .ok (.invokestatic 237, 3) := dk_184 0 237 (dk_at dksX4_puts_0 6 rfl rfl)
theorem dX4_puts_9 : decode cX4_puts 9 = .ok (.ifCond .eq 17, 3) := dk_153 0 17 (dk_at dksX4_puts_0 9 rfl rfl)
theorem dX4_puts_12 : decode cX4_puts 12 = .ok (.iload_n 2, 1) := dk_28 (dk_at dksX4_puts_0 12 rfl rfl)
theorem dX4_puts_13 : decode cX4_puts 13 = .ok (.invokestatic 240, 3) := dk_184 0 240 (dk_at dksX4_puts_0 13 rfl rfl)
theorem dX4_puts_16 : decode cX4_puts 16 = .ok (.ifCond .eq 10, 3) := dk_153 0 10 (dk_at dksX4_puts_0 16 rfl rfl)
theorem dX4_puts_19 : decode cX4_puts 19 = .ok (.iload_n 3, 1) := dk_29 (dk_at dksX4_puts_0 19 rfl rfl)
theorem dX4_puts_20 : decode cX4_puts 20 = .ok (.invokestatic 156, 3) := dk_184 0 156 (dk_at dksX4_puts_0 20 rfl rfl)
theorem dX4_puts_23 : decode cX4_puts 23 = .ok (.ifCond .ne 5, 3) := dk_154 0 5 (dk_at dksX4_puts_1 0 rfl rfl)
theorem dX4_puts_26 : decode cX4_puts 26 = .ok (.iconst (-1), 1) := dk_2 (dk_at dksX4_puts_1 3 rfl rfl)
theorem dX4_puts_27 : decode cX4_puts 27 = .ok (.ireturn, 1) := dk_172 (dk_at dksX4_puts_1 4 rfl rfl)
theorem dX4_puts_28 : decode cX4_puts 28 = .ok (.aload_n 0, 1) := dk_42 (dk_at dksX4_puts_1 5 rfl rfl)
theorem dX4_puts_29 : decode cX4_puts 29 = .ok (.iload_n 1, 1) := dk_27 (dk_at dksX4_puts_1 6 rfl rfl)
theorem dX4_puts_30 : decode cX4_puts 30 = .ok (.invokevirtual 187, 3) := dk_182 0 187 (dk_at dksX4_puts_1 7 rfl rfl)
theorem dX4_puts_33 : decode cX4_puts 33 = .ok (.bipush 64, 2) := dk_16 64 (dk_at dksX4_puts_1 10 rfl rfl)
theorem dX4_puts_35 : decode cX4_puts 35 = .ok (.if_icmp .ne 6, 3) := dk_160 0 6 (dk_at dksX4_puts_1 12 rfl rfl)
theorem dX4_puts_38 : decode cX4_puts 38 = .ok (.bipush (-3), 2) := dk_16 253 (dk_at dksX4_puts_1 15 rfl rfl)
theorem dX4_puts_40 : decode cX4_puts 40 = .ok (.ireturn, 1) := dk_172 (dk_at dksX4_puts_1 17 rfl rfl)
theorem dX4_puts_41 : decode cX4_puts 41 = .ok (.aload_n 0, 1) := dk_42 (dk_at dksX4_puts_1 18 rfl rfl)
theorem dX4_puts_42 : decode cX4_puts 42 = .ok (.iconst 2, 1) := dk_5 (dk_at dksX4_puts_1 19 rfl rfl)
theorem dX4_puts_43 : decode cX4_puts 43 = .ok (.iload_n 1, 1) := dk_27 (dk_at dksX4_puts_1 20 rfl rfl)
theorem dX4_puts_44 : decode cX4_puts 44 = .ok (.imul, 1) := dk_104 (dk_at dksX4_puts_1 21 rfl rfl)
theorem dX4_puts_45 : decode cX4_puts 45 = .ok (.iload_n 2, 1) := dk_28 (dk_at dksX4_puts_1 22 rfl rfl)
theorem dX4_puts_46 : decode cX4_puts 46 = .ok (.iadd, 1) := dk_96 (dk_at dksX4_puts_1 23 rfl rfl)
theorem dX4_puts_47 : decode cX4_puts 47 = .ok (.iload_n 3, 1) := dk_29 (dk_at dksX4_puts_2 0 rfl rfl)
theorem dX4_puts_48 : decode cX4_puts 48 = .ok (.invokevirtual 193, 3) := dk_182 0 193 (dk_at dksX4_puts_2 1 rfl rfl)
theorem dX4_puts_51 : decode cX4_puts 51 = .ok (.aload_n 0, 1) := dk_42 (dk_at dksX4_puts_2 4 rfl rfl)
theorem dX4_puts_52 : decode cX4_puts 52 = .ok (.iload_n 1, 1) := dk_27 (dk_at dksX4_puts_2 5 rfl rfl)
theorem dX4_puts_53 : decode cX4_puts 53 = .ok (.invokevirtual 187, 3) := dk_182 0 187 (dk_at dksX4_puts_2 6 rfl rfl)
theorem dX4_puts_56 : decode cX4_puts 56 = .ok (.ireturn, 1) := dk_172 (dk_at dksX4_puts_2 9 rfl rfl)
def dkwX4_isLine_0 : List UInt8 := [26, 133, 9, 20, 0, 176, 184, 0, 21, 172]
abbrev dktX4_isLine_0 : List UInt8 := dkwX4_isLine_0 ++ []
theorem dksX4_isLine_0 : cX4_isLine.data.toList.drop 0 = dktX4_isLine_0 := by decide +kernel
theorem dX4_isLine_0 : decode cX4_isLine 0 = .ok (.iload_n 0, 1) := dk_26 (dk_at dksX4_isLine_0 0 rfl rfl)
theorem dX4_isLine_1 : decode cX4_isLine 1 = .ok (.i2l, 1) := dk_133 (dk_at dksX4_isLine_0 1 rfl rfl)
theorem dX4_isLine_2 : decode cX4_isLine 2 = .ok (.lconst 0, 1) := dk_9 (dk_at dksX4_isLine_0 2 rfl rfl)
theorem dX4_isLine_3 : decode cX4_isLine 3 = .ok (.ldc2_w 176, 3) := dk_20 0 176 (dk_at dksX4_isLine_0 3 rfl rfl)
theorem dX4_isLine_6 : decode cX4_isLine 6 = .ok (.invokestatic 21, 3) := dk_184 0 21 (dk_at dksX4_isLine_0 6 rfl rfl)
theorem dX4_isLine_9 : decode cX4_isLine 9 = .ok (.ireturn, 1) := dk_172 (dk_at dksX4_isLine_0 9 rfl rfl)
def dkwX4_isEnd_0 : List UInt8 := [26, 133, 9, 10, 184, 0, 21, 172]
abbrev dktX4_isEnd_0 : List UInt8 := dkwX4_isEnd_0 ++ []
theorem dksX4_isEnd_0 : cX4_isEnd.data.toList.drop 0 = dktX4_isEnd_0 := by decide +kernel
theorem dX4_isEnd_0 : decode cX4_isEnd 0 = .ok (.iload_n 0, 1) := dk_26 (dk_at dksX4_isEnd_0 0 rfl rfl)
theorem dX4_isEnd_1 : decode cX4_isEnd 1 = .ok (.i2l, 1) := dk_133 (dk_at dksX4_isEnd_0 1 rfl rfl)
theorem dX4_isEnd_2 : decode cX4_isEnd 2 = .ok (.lconst 0, 1) := dk_9 (dk_at dksX4_isEnd_0 2 rfl rfl)
theorem dX4_isEnd_3 : decode cX4_isEnd 3 = .ok (.lconst 1, 1) := dk_10 (dk_at dksX4_isEnd_0 3 rfl rfl)
theorem dX4_isEnd_4 : decode cX4_isEnd 4 = .ok (.invokestatic 21, 3) := dk_184 0 21 (dk_at dksX4_isEnd_0 4 rfl rfl)
theorem dX4_isEnd_7 : decode cX4_isEnd 7 = .ok (.ireturn, 1) := dk_172 (dk_at dksX4_isEnd_0 7 rfl rfl)
def dkwX4_takes_2 : List UInt8 := [21, 4, 182, 0, 246, 172]
abbrev dktX4_takes_2 : List UInt8 := dkwX4_takes_2 ++ []
def dkwX4_takes_1 : List UInt8 := [182, 0, 187, 154, 0, 6, 16, 254, 172, 42, 180, 0, 184, 62, 42, 27, 28, 182, 0, 243, 54, 4, 42, 29]
abbrev dktX4_takes_1 : List UInt8 := dkwX4_takes_1 ++ dktX4_takes_2
def dkwX4_takes_0 : List UInt8 := [42, 3, 181, 0, 1, 27, 184, 0, 237, 153, 0, 10, 28, 184, 0, 240, 154, 0, 5, 2, 172, 42, 27]
abbrev dktX4_takes_0 : List UInt8 := dkwX4_takes_0 ++ dktX4_takes_1
theorem dksX4_takes_0 : cX4_takes.data.toList.drop 0 = dktX4_takes_0 := by decide +kernel
theorem dksX4_takes_1 : cX4_takes.data.toList.drop 23 = dktX4_takes_1 := dk_seg dksX4_takes_0 23 rfl rfl
theorem dksX4_takes_2 : cX4_takes.data.toList.drop 47 = dktX4_takes_2 := dk_seg dksX4_takes_1 24 rfl rfl
theorem dX4_takes_0 : decode cX4_takes 0 = .ok (.aload_n 0, 1) := dk_42 (dk_at dksX4_takes_0 0 rfl rfl)
theorem dX4_takes_1 : decode cX4_takes 1 = .ok (.iconst 0, 1) := dk_3 (dk_at dksX4_takes_0 1 rfl rfl)
theorem dX4_takes_2 : decode cX4_takes 2 = .ok (.putfield 1, 3) := dk_181 0 1 (dk_at dksX4_takes_0 2 rfl rfl)
theorem dX4_takes_5 : decode cX4_takes 5 = .ok (.iload_n 1, 1) := dk_27 (dk_at dksX4_takes_0 5 rfl rfl)
theorem dX4_takes_6 : decode cX4_takes 6 = .ok (.invokestatic 237, 3) := dk_184 0 237 (dk_at dksX4_takes_0 6 rfl rfl)
theorem dX4_takes_9 : decode cX4_takes 9 = .ok (.ifCond .eq 10, 3) := dk_153 0 10 (dk_at dksX4_takes_0 9 rfl rfl)
theorem dX4_takes_12 : decode cX4_takes 12 = .ok (.iload_n 2, 1) := dk_28 (dk_at dksX4_takes_0 12 rfl rfl)
theorem dX4_takes_13 : decode cX4_takes 13 = .ok (.invokestatic 240, 3) := dk_184 0 240 (dk_at dksX4_takes_0 13 rfl rfl)
theorem dX4_takes_16 : decode cX4_takes 16 = .ok (.ifCond .ne 5, 3) := dk_154 0 5 (dk_at dksX4_takes_0 16 rfl rfl)
theorem dX4_takes_19 : decode cX4_takes 19 = .ok (.iconst (-1), 1) := dk_2 (dk_at dksX4_takes_0 19 rfl rfl)
theorem dX4_takes_20 : decode cX4_takes 20 = .ok (.ireturn, 1) := dk_172 (dk_at dksX4_takes_0 20 rfl rfl)
theorem dX4_takes_21 : decode cX4_takes 21 = .ok (.aload_n 0, 1) := dk_42 (dk_at dksX4_takes_0 21 rfl rfl)
theorem dX4_takes_22 : decode cX4_takes 22 = .ok (.iload_n 1, 1) := dk_27 (dk_at dksX4_takes_0 22 rfl rfl)
theorem dX4_takes_23 : decode cX4_takes 23 = .ok (.invokevirtual 187, 3) := dk_182 0 187 (dk_at dksX4_takes_1 0 rfl rfl)
theorem dX4_takes_26 : decode cX4_takes 26 = .ok (.ifCond .ne 6, 3) := dk_154 0 6 (dk_at dksX4_takes_1 3 rfl rfl)
theorem dX4_takes_29 : decode cX4_takes 29 = .ok (.bipush (-2), 2) := dk_16 254 (dk_at dksX4_takes_1 6 rfl rfl)
theorem dX4_takes_31 : decode cX4_takes 31 = .ok (.ireturn, 1) := dk_172 (dk_at dksX4_takes_1 8 rfl rfl)
theorem dX4_takes_32 : decode cX4_takes 32 = .ok (.aload_n 0, 1) := dk_42 (dk_at dksX4_takes_1 9 rfl rfl)
theorem dX4_takes_33 : decode cX4_takes 33 = .ok (.getfield 184, 3) := dk_180 0 184 (dk_at dksX4_takes_1 10 rfl rfl)
theorem dX4_takes_36 : decode cX4_takes 36 = .ok (.istore_n 3, 1) := dk_62 (dk_at dksX4_takes_1 13 rfl rfl)
theorem dX4_takes_37 : decode cX4_takes 37 = .ok (.aload_n 0, 1) := dk_42 (dk_at dksX4_takes_1 14 rfl rfl)
theorem dX4_takes_38 : decode cX4_takes 38 = .ok (.iload_n 1, 1) := dk_27 (dk_at dksX4_takes_1 15 rfl rfl)
theorem dX4_takes_39 : decode cX4_takes 39 = .ok (.iload_n 2, 1) := dk_28 (dk_at dksX4_takes_1 16 rfl rfl)
theorem dX4_takes_40 : decode cX4_takes 40 = .ok (.invokevirtual 243, 3) := dk_182 0 243 (dk_at dksX4_takes_1 17 rfl rfl)
theorem dX4_takes_43 : decode cX4_takes 43 = .ok (.istore 4, 2) := dk_54 4 (dk_at dksX4_takes_1 20 rfl rfl)
theorem dX4_takes_45 : decode cX4_takes 45 = .ok (.aload_n 0, 1) := dk_42 (dk_at dksX4_takes_1 22 rfl rfl)
theorem dX4_takes_46 : decode cX4_takes 46 = .ok (.iload_n 3, 1) := dk_29 (dk_at dksX4_takes_1 23 rfl rfl)
theorem dX4_takes_47 : decode cX4_takes 47 = .ok (.iload 4, 2) := dk_21 4 (dk_at dksX4_takes_2 0 rfl rfl)
theorem dX4_takes_49 : decode cX4_takes 49 = .ok (.invokevirtual 246, 3) := dk_182 0 246 (dk_at dksX4_takes_2 2 rfl rfl)
theorem dX4_takes_52 : decode cX4_takes 52 = .ok (.ireturn, 1) := dk_172 (dk_at dksX4_takes_2 5 rfl rfl)
def dkwX4_takesOne_3 : List UInt8 := [42, 180, 0, 72, 29, 42, 180, 0, 66, 29, 46, 184, 0, 178, 46, 172]
abbrev dktX4_takesOne_3 : List UInt8 := dkwX4_takesOne_3 ++ []
def dkwX4_takesOne_2 : List UInt8 := [100, 182, 0, 199, 42, 89, 180, 0, 202, 4, 96, 181, 0, 202, 42, 180, 0, 66, 29, 92, 46, 4, 100, 79]
abbrev dktX4_takesOne_2 : List UInt8 := dkwX4_takesOne_2 ++ dktX4_takesOne_3
def dkwX4_takesOne_1 : List UInt8 := [4, 96, 5, 108, 54, 5, 42, 27, 3, 21, 4, 28, 154, 0, 8, 21, 5, 167, 0, 8, 21, 4, 21, 5]
abbrev dktX4_takesOne_1 : List UInt8 := dkwX4_takesOne_1 ++ dktX4_takesOne_2
def dkwX4_takesOne_0 : List UInt8 := [5, 27, 104, 28, 96, 62, 42, 180, 0, 66, 29, 46, 154, 0, 50, 42, 27, 182, 0, 196, 54, 4, 21, 4]
abbrev dktX4_takesOne_0 : List UInt8 := dkwX4_takesOne_0 ++ dktX4_takesOne_1
theorem dksX4_takesOne_0 : cX4_takesOne.data.toList.drop 0 = dktX4_takesOne_0 := by decide +kernel
theorem dksX4_takesOne_1 : cX4_takesOne.data.toList.drop 24 = dktX4_takesOne_1 := dk_seg dksX4_takesOne_0 24 rfl rfl
theorem dksX4_takesOne_2 : cX4_takesOne.data.toList.drop 48 = dktX4_takesOne_2 := dk_seg dksX4_takesOne_1 24 rfl rfl
theorem dksX4_takesOne_3 : cX4_takesOne.data.toList.drop 72 = dktX4_takesOne_3 := dk_seg dksX4_takesOne_2 24 rfl rfl
theorem dX4_takesOne_0 : decode cX4_takesOne 0 = .ok (.iconst 2, 1) := dk_5 (dk_at dksX4_takesOne_0 0 rfl rfl)
theorem dX4_takesOne_1 : decode cX4_takesOne 1 = .ok (.iload_n 1, 1) := dk_27 (dk_at dksX4_takesOne_0 1 rfl rfl)
theorem dX4_takesOne_2 : decode cX4_takesOne 2 = .ok (.imul, 1) := dk_104 (dk_at dksX4_takesOne_0 2 rfl rfl)
theorem dX4_takesOne_3 : decode cX4_takesOne 3 = .ok (.iload_n 2, 1) := dk_28 (dk_at dksX4_takesOne_0 3 rfl rfl)
theorem dX4_takesOne_4 : decode cX4_takesOne 4 = .ok (.iadd, 1) := dk_96 (dk_at dksX4_takesOne_0 4 rfl rfl)
theorem dX4_takesOne_5 : decode cX4_takesOne 5 = .ok (.istore_n 3, 1) := dk_62 (dk_at dksX4_takesOne_0 5 rfl rfl)
theorem dX4_takesOne_6 : decode cX4_takesOne 6 = .ok (.aload_n 0, 1) := dk_42 (dk_at dksX4_takesOne_0 6 rfl rfl)
theorem dX4_takesOne_7 : decode cX4_takesOne 7 = .ok (.getfield 66, 3) := dk_180 0 66 (dk_at dksX4_takesOne_0 7 rfl rfl)
theorem dX4_takesOne_10 : decode cX4_takesOne 10 = .ok (.iload_n 3, 1) := dk_29 (dk_at dksX4_takesOne_0 10 rfl rfl)
theorem dX4_takesOne_11 : decode cX4_takesOne 11 = .ok (.iaload, 1) := dk_46 (dk_at dksX4_takesOne_0 11 rfl rfl)
theorem dX4_takesOne_12 : decode cX4_takesOne 12 = .ok (.ifCond .ne 50, 3) := dk_154 0 50 (dk_at dksX4_takesOne_0 12 rfl rfl)
theorem dX4_takesOne_15 : decode cX4_takesOne 15 = .ok (.aload_n 0, 1) := dk_42 (dk_at dksX4_takesOne_0 15 rfl rfl)
theorem dX4_takesOne_16 : decode cX4_takesOne 16 = .ok (.iload_n 1, 1) := dk_27 (dk_at dksX4_takesOne_0 16 rfl rfl)
theorem dX4_takesOne_17 : decode cX4_takesOne 17 = .ok (.invokevirtual 196, 3) := dk_182 0 196 (dk_at dksX4_takesOne_0 17 rfl rfl)
theorem dX4_takesOne_20 : decode cX4_takesOne 20 = .ok (.istore 4, 2) := dk_54 4 (dk_at dksX4_takesOne_0 20 rfl rfl)
theorem dX4_takesOne_22 : decode cX4_takesOne 22 = .ok (.iload 4, 2) := dk_21 4 (dk_at dksX4_takesOne_0 22 rfl rfl)
theorem dX4_takesOne_24 : decode cX4_takesOne 24 = .ok (.iconst 1, 1) := dk_4 (dk_at dksX4_takesOne_1 0 rfl rfl)
theorem dX4_takesOne_25 : decode cX4_takesOne 25 = .ok (.iadd, 1) := dk_96 (dk_at dksX4_takesOne_1 1 rfl rfl)
theorem dX4_takesOne_26 : decode cX4_takesOne 26 = .ok (.iconst 2, 1) := dk_5 (dk_at dksX4_takesOne_1 2 rfl rfl)
theorem dX4_takesOne_27 : decode cX4_takesOne 27 = .ok (.idiv, 1) := dk_108 (dk_at dksX4_takesOne_1 3 rfl rfl)
theorem dX4_takesOne_28 : decode cX4_takesOne 28 = .ok (.istore 5, 2) := dk_54 5 (dk_at dksX4_takesOne_1 4 rfl rfl)
theorem dX4_takesOne_30 : decode cX4_takesOne 30 = .ok (.aload_n 0, 1) := dk_42 (dk_at dksX4_takesOne_1 6 rfl rfl)
theorem dX4_takesOne_31 : decode cX4_takesOne 31 = .ok (.iload_n 1, 1) := dk_27 (dk_at dksX4_takesOne_1 7 rfl rfl)
theorem dX4_takesOne_32 : decode cX4_takesOne 32 = .ok (.iconst 0, 1) := dk_3 (dk_at dksX4_takesOne_1 8 rfl rfl)
theorem dX4_takesOne_33 : decode cX4_takesOne 33 = .ok (.iload 4, 2) := dk_21 4 (dk_at dksX4_takesOne_1 9 rfl rfl)
theorem dX4_takesOne_35 : decode cX4_takesOne 35 = .ok (.iload_n 2, 1) := dk_28 (dk_at dksX4_takesOne_1 11 rfl rfl)
theorem dX4_takesOne_36 : decode cX4_takesOne 36 = .ok (.ifCond .ne 8, 3) := dk_154 0 8 (dk_at dksX4_takesOne_1 12 rfl rfl)
theorem dX4_takesOne_39 : decode cX4_takesOne 39 = .ok (.iload 5, 2) := dk_21 5 (dk_at dksX4_takesOne_1 15 rfl rfl)
theorem dX4_takesOne_41 : decode cX4_takesOne 41 = .ok (.goto 8, 3) := dk_167 0 8 (dk_at dksX4_takesOne_1 17 rfl rfl)
theorem dX4_takesOne_44 : decode cX4_takesOne 44 = .ok (.iload 4, 2) := dk_21 4 (dk_at dksX4_takesOne_1 20 rfl rfl)
theorem dX4_takesOne_46 : decode cX4_takesOne 46 = .ok (.iload 5, 2) := dk_21 5 (dk_at dksX4_takesOne_1 22 rfl rfl)
theorem dX4_takesOne_48 : decode cX4_takesOne 48 = .ok (.isub, 1) := dk_100 (dk_at dksX4_takesOne_2 0 rfl rfl)
theorem dX4_takesOne_49 : decode cX4_takesOne 49 = .ok (.invokevirtual 199, 3) := dk_182 0 199 (dk_at dksX4_takesOne_2 1 rfl rfl)
theorem dX4_takesOne_52 : decode cX4_takesOne 52 = .ok (.aload_n 0, 1) := dk_42 (dk_at dksX4_takesOne_2 4 rfl rfl)
theorem dX4_takesOne_53 : decode cX4_takesOne 53 = .ok (.dup, 1) := dk_89 (dk_at dksX4_takesOne_2 5 rfl rfl)
theorem dX4_takesOne_54 : decode cX4_takesOne 54 = .ok (.getfield 202, 3) := dk_180 0 202 (dk_at dksX4_takesOne_2 6 rfl rfl)
theorem dX4_takesOne_57 : decode cX4_takesOne 57 = .ok (.iconst 1, 1) := dk_4 (dk_at dksX4_takesOne_2 9 rfl rfl)
theorem dX4_takesOne_58 : decode cX4_takesOne 58 = .ok (.iadd, 1) := dk_96 (dk_at dksX4_takesOne_2 10 rfl rfl)
theorem dX4_takesOne_59 : decode cX4_takesOne 59 = .ok (.putfield 202, 3) := dk_181 0 202 (dk_at dksX4_takesOne_2 11 rfl rfl)
theorem dX4_takesOne_62 : decode cX4_takesOne 62 = .ok (.aload_n 0, 1) := dk_42 (dk_at dksX4_takesOne_2 14 rfl rfl)
theorem dX4_takesOne_63 : decode cX4_takesOne 63 = .ok (.getfield 66, 3) := dk_180 0 66 (dk_at dksX4_takesOne_2 15 rfl rfl)
theorem dX4_takesOne_66 : decode cX4_takesOne 66 = .ok (.iload_n 3, 1) := dk_29 (dk_at dksX4_takesOne_2 18 rfl rfl)
theorem dX4_takesOne_67 : decode cX4_takesOne 67 = .ok (.dup2, 1) := dk_92 (dk_at dksX4_takesOne_2 19 rfl rfl)
theorem dX4_takesOne_68 : decode cX4_takesOne 68 = .ok (.iaload, 1) := dk_46 (dk_at dksX4_takesOne_2 20 rfl rfl)
theorem dX4_takesOne_69 : decode cX4_takesOne 69 = .ok (.iconst 1, 1) := dk_4 (dk_at dksX4_takesOne_2 21 rfl rfl)
theorem dX4_takesOne_70 : decode cX4_takesOne 70 = .ok (.isub, 1) := dk_100 (dk_at dksX4_takesOne_2 22 rfl rfl)
theorem dX4_takesOne_71 : decode cX4_takesOne 71 = .ok (.iastore, 1) := dk_79 (dk_at dksX4_takesOne_2 23 rfl rfl)
theorem dX4_takesOne_72 : decode cX4_takesOne 72 = .ok (.aload_n 0, 1) := dk_42 (dk_at dksX4_takesOne_3 0 rfl rfl)
theorem dX4_takesOne_73 : decode cX4_takesOne 73 = .ok (.getfield 72, 3) := dk_180 0 72 (dk_at dksX4_takesOne_3 1 rfl rfl)
theorem dX4_takesOne_76 : decode cX4_takesOne 76 = .ok (.iload_n 3, 1) := dk_29 (dk_at dksX4_takesOne_3 4 rfl rfl)
theorem dX4_takesOne_77 : decode cX4_takesOne 77 = .ok (.aload_n 0, 1) := dk_42 (dk_at dksX4_takesOne_3 5 rfl rfl)
theorem dX4_takesOne_78 : decode cX4_takesOne 78 = .ok (.getfield 66, 3) := dk_180 0 66 (dk_at dksX4_takesOne_3 6 rfl rfl)
theorem dX4_takesOne_81 : decode cX4_takesOne 81 = .ok (.iload_n 3, 1) := dk_29 (dk_at dksX4_takesOne_3 9 rfl rfl)
theorem dX4_takesOne_82 : decode cX4_takesOne 82 = .ok (.iaload, 1) := dk_46 (dk_at dksX4_takesOne_3 10 rfl rfl)
theorem dX4_takesOne_83 : decode cX4_takesOne 83 = .ok (.invokestatic 178, 3) := dk_184 0 178 (dk_at dksX4_takesOne_3 11 rfl rfl)
theorem dX4_takesOne_86 : decode cX4_takesOne 86 = .ok (.iaload, 1) := dk_46 (dk_at dksX4_takesOne_3 14 rfl rfl)
theorem dX4_takesOne_87 : decode cX4_takesOne 87 = .ok (.ireturn, 1) := dk_172 (dk_at dksX4_takesOne_3 15 rfl rfl)
def dkwX4_tellsWork_0 : List UInt8 := [42, 3, 181, 0, 11, 42, 42, 180, 0, 184, 27, 100, 133, 182, 0, 164, 28, 172]
abbrev dktX4_tellsWork_0 : List UInt8 := dkwX4_tellsWork_0 ++ []
theorem dksX4_tellsWork_0 : cX4_tellsWork.data.toList.drop 0 = dktX4_tellsWork_0 := by decide +kernel
theorem dX4_tellsWork_0 : decode cX4_tellsWork 0 = .ok (.aload_n 0, 1) := dk_42 (dk_at dksX4_tellsWork_0 0 rfl rfl)
theorem dX4_tellsWork_1 : decode cX4_tellsWork 1 = .ok (.iconst 0, 1) := dk_3 (dk_at dksX4_tellsWork_0 1 rfl rfl)
theorem dX4_tellsWork_2 : decode cX4_tellsWork 2 = .ok (.putfield 11, 3) := dk_181 0 11 (dk_at dksX4_tellsWork_0 2 rfl rfl)
theorem dX4_tellsWork_5 : decode cX4_tellsWork 5 = .ok (.aload_n 0, 1) := dk_42 (dk_at dksX4_tellsWork_0 5 rfl rfl)
theorem dX4_tellsWork_6 : decode cX4_tellsWork 6 = .ok (.aload_n 0, 1) := dk_42 (dk_at dksX4_tellsWork_0 6 rfl rfl)
theorem dX4_tellsWork_7 : decode cX4_tellsWork 7 = .ok (.getfield 184, 3) := dk_180 0 184 (dk_at dksX4_tellsWork_0 7 rfl rfl)
theorem dX4_tellsWork_10 : decode cX4_tellsWork 10 = .ok (.iload_n 1, 1) := dk_27 (dk_at dksX4_tellsWork_0 10 rfl rfl)
theorem dX4_tellsWork_11 : decode cX4_tellsWork 11 = .ok (.isub, 1) := dk_100 (dk_at dksX4_tellsWork_0 11 rfl rfl)
theorem dX4_tellsWork_12 : decode cX4_tellsWork 12 = .ok (.i2l, 1) := dk_133 (dk_at dksX4_tellsWork_0 12 rfl rfl)
theorem dX4_tellsWork_13 : decode cX4_tellsWork 13 = .ok (.invokevirtual 164, 3) := dk_182 0 164 (dk_at dksX4_tellsWork_0 13 rfl rfl)
theorem dX4_tellsWork_16 : decode cX4_tellsWork 16 = .ok (.iload_n 2, 1) := dk_28 (dk_at dksX4_tellsWork_0 16 rfl rfl)
theorem dX4_tellsWork_17 : decode cX4_tellsWork 17 = .ok (.ireturn, 1) := dk_172 (dk_at dksX4_tellsWork_0 17 rfl rfl)
def dkwX4_copies_1 : List UInt8 := [160, 0, 6, 16, 254, 172, 42, 27, 28, 182, 0, 249, 42, 27, 182, 0, 187, 172]
abbrev dktX4_copies_1 : List UInt8 := dkwX4_copies_1 ++ []
def dkwX4_copies_0 : List UInt8 := [42, 3, 181, 0, 1, 27, 184, 0, 237, 153, 0, 10, 28, 184, 0, 237, 154, 0, 5, 2, 172, 27, 28]
abbrev dktX4_copies_0 : List UInt8 := dkwX4_copies_0 ++ dktX4_copies_1
theorem dksX4_copies_0 : cX4_copies.data.toList.drop 0 = dktX4_copies_0 := by decide +kernel
theorem dksX4_copies_1 : cX4_copies.data.toList.drop 23 = dktX4_copies_1 := dk_seg dksX4_copies_0 23 rfl rfl
theorem dX4_copies_0 : decode cX4_copies 0 = .ok (.aload_n 0, 1) := dk_42 (dk_at dksX4_copies_0 0 rfl rfl)
theorem dX4_copies_1 : decode cX4_copies 1 = .ok (.iconst 0, 1) := dk_3 (dk_at dksX4_copies_0 1 rfl rfl)
theorem dX4_copies_2 : decode cX4_copies 2 = .ok (.putfield 1, 3) := dk_181 0 1 (dk_at dksX4_copies_0 2 rfl rfl)
theorem dX4_copies_5 : decode cX4_copies 5 = .ok (.iload_n 1, 1) := dk_27 (dk_at dksX4_copies_0 5 rfl rfl)
theorem dX4_copies_6 : decode cX4_copies 6 = .ok (.invokestatic 237, 3) := dk_184 0 237 (dk_at dksX4_copies_0 6 rfl rfl)
theorem dX4_copies_9 : decode cX4_copies 9 = .ok (.ifCond .eq 10, 3) := dk_153 0 10 (dk_at dksX4_copies_0 9 rfl rfl)
theorem dX4_copies_12 : decode cX4_copies 12 = .ok (.iload_n 2, 1) := dk_28 (dk_at dksX4_copies_0 12 rfl rfl)
theorem dX4_copies_13 : decode cX4_copies 13 = .ok (.invokestatic 237, 3) := dk_184 0 237 (dk_at dksX4_copies_0 13 rfl rfl)
theorem dX4_copies_16 : decode cX4_copies 16 = .ok (.ifCond .ne 5, 3) := dk_154 0 5 (dk_at dksX4_copies_0 16 rfl rfl)
theorem dX4_copies_19 : decode cX4_copies 19 = .ok (.iconst (-1), 1) := dk_2 (dk_at dksX4_copies_0 19 rfl rfl)
theorem dX4_copies_20 : decode cX4_copies 20 = .ok (.ireturn, 1) := dk_172 (dk_at dksX4_copies_0 20 rfl rfl)
theorem dX4_copies_21 : decode cX4_copies 21 = .ok (.iload_n 1, 1) := dk_27 (dk_at dksX4_copies_0 21 rfl rfl)
theorem dX4_copies_22 : decode cX4_copies 22 = .ok (.iload_n 2, 1) := dk_28 (dk_at dksX4_copies_0 22 rfl rfl)
theorem dX4_copies_23 : decode cX4_copies 23 = .ok (.if_icmp .ne 6, 3) := dk_160 0 6 (dk_at dksX4_copies_1 0 rfl rfl)
theorem dX4_copies_26 : decode cX4_copies 26 = .ok (.bipush (-2), 2) := dk_16 254 (dk_at dksX4_copies_1 3 rfl rfl)
theorem dX4_copies_28 : decode cX4_copies 28 = .ok (.ireturn, 1) := dk_172 (dk_at dksX4_copies_1 5 rfl rfl)
theorem dX4_copies_29 : decode cX4_copies 29 = .ok (.aload_n 0, 1) := dk_42 (dk_at dksX4_copies_1 6 rfl rfl)
theorem dX4_copies_30 : decode cX4_copies 30 = .ok (.iload_n 1, 1) := dk_27 (dk_at dksX4_copies_1 7 rfl rfl)
theorem dX4_copies_31 : decode cX4_copies 31 = .ok (.iload_n 2, 1) := dk_28 (dk_at dksX4_copies_1 8 rfl rfl)
theorem dX4_copies_32 : decode cX4_copies 32 = .ok (.invokevirtual 249, 3) := dk_182 0 249 (dk_at dksX4_copies_1 9 rfl rfl)
theorem dX4_copies_35 : decode cX4_copies 35 = .ok (.aload_n 0, 1) := dk_42 (dk_at dksX4_copies_1 12 rfl rfl)
theorem dX4_copies_36 : decode cX4_copies 36 = .ok (.iload_n 1, 1) := dk_27 (dk_at dksX4_copies_1 13 rfl rfl)
theorem dX4_copies_37 : decode cX4_copies 37 = .ok (.invokevirtual 187, 3) := dk_182 0 187 (dk_at dksX4_copies_1 14 rfl rfl)
theorem dX4_copies_40 : decode cX4_copies 40 = .ok (.ireturn, 1) := dk_172 (dk_at dksX4_copies_1 17 rfl rfl)
def dkwX4_copiesTo_5 : List UInt8 := [42, 180, 0, 78, 21, 5, 47, 80, 132, 4, 1, 167, 255, 158, 132, 3, 1, 167, 255, 124, 177]
abbrev dktX4_copiesTo_5 : List UInt8 := dkwX4_copiesTo_5 ++ []
def dkwX4_copiesTo_4 : List UInt8 := [21, 5, 46, 79, 42, 180, 0, 75, 21, 6, 42, 180, 0, 75, 21, 5, 47, 80, 42, 180, 0, 78, 21, 6]
abbrev dktX4_copiesTo_4 : List UInt8 := dkwX4_copiesTo_4 ++ dktX4_copiesTo_5
def dkwX4_copiesTo_3 : List UInt8 := [180, 0, 69, 21, 6, 42, 180, 0, 69, 21, 5, 46, 79, 42, 180, 0, 72, 21, 6, 42, 180, 0, 72]
abbrev dktX4_copiesTo_3 : List UInt8 := dkwX4_copiesTo_3 ++ dktX4_copiesTo_4
def dkwX4_copiesTo_2 : List UInt8 := [29, 96, 21, 4, 184, 0, 178, 54, 5, 5, 28, 104, 29, 96, 21, 4, 184, 0, 178, 54, 6, 42]
abbrev dktX4_copiesTo_2 : List UInt8 := dkwX4_copiesTo_2 ++ dktX4_copiesTo_3
def dkwX4_copiesTo_1 : List UInt8 := [96, 46, 79, 3, 54, 4, 21, 4, 42, 180, 0, 66, 5, 27, 104, 29, 96, 46, 162, 0, 89, 5, 27, 104]
abbrev dktX4_copiesTo_1 : List UInt8 := dkwX4_copiesTo_1 ++ dktX4_copiesTo_2
def dkwX4_copiesTo_0 : List UInt8 := [3, 62, 29, 5, 162, 0, 133, 42, 180, 0, 66, 5, 28, 104, 29, 96, 42, 180, 0, 66, 5, 27, 104, 29]
abbrev dktX4_copiesTo_0 : List UInt8 := dkwX4_copiesTo_0 ++ dktX4_copiesTo_1
theorem dksX4_copiesTo_0 : cX4_copiesTo.data.toList.drop 0 = dktX4_copiesTo_0 := by decide +kernel
theorem dksX4_copiesTo_1 : cX4_copiesTo.data.toList.drop 24 = dktX4_copiesTo_1 := dk_seg dksX4_copiesTo_0 24 rfl rfl
theorem dksX4_copiesTo_2 : cX4_copiesTo.data.toList.drop 48 = dktX4_copiesTo_2 := dk_seg dksX4_copiesTo_1 24 rfl rfl
theorem dksX4_copiesTo_3 : cX4_copiesTo.data.toList.drop 70 = dktX4_copiesTo_3 := dk_seg dksX4_copiesTo_2 22 rfl rfl
theorem dksX4_copiesTo_4 : cX4_copiesTo.data.toList.drop 93 = dktX4_copiesTo_4 := dk_seg dksX4_copiesTo_3 23 rfl rfl
theorem dksX4_copiesTo_5 : cX4_copiesTo.data.toList.drop 117 = dktX4_copiesTo_5 := dk_seg dksX4_copiesTo_4 24 rfl rfl
theorem dX4_copiesTo_0 : decode cX4_copiesTo 0 = .ok (.iconst 0, 1) := dk_3 (dk_at dksX4_copiesTo_0 0 rfl rfl)
theorem dX4_copiesTo_1 : decode cX4_copiesTo 1 = .ok (.istore_n 3, 1) := dk_62 (dk_at dksX4_copiesTo_0 1 rfl rfl)
theorem dX4_copiesTo_2 : decode cX4_copiesTo 2 = .ok (.iload_n 3, 1) := dk_29 (dk_at dksX4_copiesTo_0 2 rfl rfl)
theorem dX4_copiesTo_3 : decode cX4_copiesTo 3 = .ok (.iconst 2, 1) := dk_5 (dk_at dksX4_copiesTo_0 3 rfl rfl)
theorem dX4_copiesTo_4 : decode cX4_copiesTo 4 = .ok (.if_icmp .ge 133, 3) := dk_162 0 133 (dk_at dksX4_copiesTo_0 4 rfl rfl)
theorem dX4_copiesTo_7 : decode cX4_copiesTo 7 = .ok (.aload_n 0, 1) := dk_42 (dk_at dksX4_copiesTo_0 7 rfl rfl)
theorem dX4_copiesTo_8 : decode cX4_copiesTo 8 = .ok (.getfield 66, 3) := dk_180 0 66 (dk_at dksX4_copiesTo_0 8 rfl rfl)
theorem dX4_copiesTo_11 : decode cX4_copiesTo 11 = .ok (.iconst 2, 1) := dk_5 (dk_at dksX4_copiesTo_0 11 rfl rfl)
theorem dX4_copiesTo_12 : decode cX4_copiesTo 12 = .ok (.iload_n 2, 1) := dk_28 (dk_at dksX4_copiesTo_0 12 rfl rfl)
theorem dX4_copiesTo_13 : decode cX4_copiesTo 13 = .ok (.imul, 1) := dk_104 (dk_at dksX4_copiesTo_0 13 rfl rfl)
theorem dX4_copiesTo_14 : decode cX4_copiesTo 14 = .ok (.iload_n 3, 1) := dk_29 (dk_at dksX4_copiesTo_0 14 rfl rfl)
theorem dX4_copiesTo_15 : decode cX4_copiesTo 15 = .ok (.iadd, 1) := dk_96 (dk_at dksX4_copiesTo_0 15 rfl rfl)
theorem dX4_copiesTo_16 : decode cX4_copiesTo 16 = .ok (.aload_n 0, 1) := dk_42 (dk_at dksX4_copiesTo_0 16 rfl rfl)
theorem dX4_copiesTo_17 : decode cX4_copiesTo 17 = .ok (.getfield 66, 3) := dk_180 0 66 (dk_at dksX4_copiesTo_0 17 rfl rfl)
theorem dX4_copiesTo_20 : decode cX4_copiesTo 20 = .ok (.iconst 2, 1) := dk_5 (dk_at dksX4_copiesTo_0 20 rfl rfl)
theorem dX4_copiesTo_21 : decode cX4_copiesTo 21 = .ok (.iload_n 1, 1) := dk_27 (dk_at dksX4_copiesTo_0 21 rfl rfl)
theorem dX4_copiesTo_22 : decode cX4_copiesTo 22 = .ok (.imul, 1) := dk_104 (dk_at dksX4_copiesTo_0 22 rfl rfl)
theorem dX4_copiesTo_23 : decode cX4_copiesTo 23 = .ok (.iload_n 3, 1) := dk_29 (dk_at dksX4_copiesTo_0 23 rfl rfl)
theorem dX4_copiesTo_24 : decode cX4_copiesTo 24 = .ok (.iadd, 1) := dk_96 (dk_at dksX4_copiesTo_1 0 rfl rfl)
theorem dX4_copiesTo_25 : decode cX4_copiesTo 25 = .ok (.iaload, 1) := dk_46 (dk_at dksX4_copiesTo_1 1 rfl rfl)
theorem dX4_copiesTo_26 : decode cX4_copiesTo 26 = .ok (.iastore, 1) := dk_79 (dk_at dksX4_copiesTo_1 2 rfl rfl)
theorem dX4_copiesTo_27 : decode cX4_copiesTo 27 = .ok (.iconst 0, 1) := dk_3 (dk_at dksX4_copiesTo_1 3 rfl rfl)
theorem dX4_copiesTo_28 : decode cX4_copiesTo 28 = .ok (.istore 4, 2) := dk_54 4 (dk_at dksX4_copiesTo_1 4 rfl rfl)
theorem dX4_copiesTo_30 : decode cX4_copiesTo 30 = .ok (.iload 4, 2) := dk_21 4 (dk_at dksX4_copiesTo_1 6 rfl rfl)
theorem dX4_copiesTo_32 : decode cX4_copiesTo 32 = .ok (.aload_n 0, 1) := dk_42 (dk_at dksX4_copiesTo_1 8 rfl rfl)
theorem dX4_copiesTo_33 : decode cX4_copiesTo 33 = .ok (.getfield 66, 3) := dk_180 0 66 (dk_at dksX4_copiesTo_1 9 rfl rfl)
theorem dX4_copiesTo_36 : decode cX4_copiesTo 36 = .ok (.iconst 2, 1) := dk_5 (dk_at dksX4_copiesTo_1 12 rfl rfl)
theorem dX4_copiesTo_37 : decode cX4_copiesTo 37 = .ok (.iload_n 1, 1) := dk_27 (dk_at dksX4_copiesTo_1 13 rfl rfl)
theorem dX4_copiesTo_38 : decode cX4_copiesTo 38 = .ok (.imul, 1) := dk_104 (dk_at dksX4_copiesTo_1 14 rfl rfl)
theorem dX4_copiesTo_39 : decode cX4_copiesTo 39 = .ok (.iload_n 3, 1) := dk_29 (dk_at dksX4_copiesTo_1 15 rfl rfl)
theorem dX4_copiesTo_40 : decode cX4_copiesTo 40 = .ok (.iadd, 1) := dk_96 (dk_at dksX4_copiesTo_1 16 rfl rfl)
theorem dX4_copiesTo_41 : decode cX4_copiesTo 41 = .ok (.iaload, 1) := dk_46 (dk_at dksX4_copiesTo_1 17 rfl rfl)
theorem dX4_copiesTo_42 : decode cX4_copiesTo 42 = .ok (.if_icmp .ge 89, 3) := dk_162 0 89 (dk_at dksX4_copiesTo_1 18 rfl rfl)
theorem dX4_copiesTo_45 : decode cX4_copiesTo 45 = .ok (.iconst 2, 1) := dk_5 (dk_at dksX4_copiesTo_1 21 rfl rfl)
theorem dX4_copiesTo_46 : decode cX4_copiesTo 46 = .ok (.iload_n 1, 1) := dk_27 (dk_at dksX4_copiesTo_1 22 rfl rfl)
theorem dX4_copiesTo_47 : decode cX4_copiesTo 47 = .ok (.imul, 1) := dk_104 (dk_at dksX4_copiesTo_1 23 rfl rfl)
theorem dX4_copiesTo_48 : decode cX4_copiesTo 48 = .ok (.iload_n 3, 1) := dk_29 (dk_at dksX4_copiesTo_2 0 rfl rfl)
theorem dX4_copiesTo_49 : decode cX4_copiesTo 49 = .ok (.iadd, 1) := dk_96 (dk_at dksX4_copiesTo_2 1 rfl rfl)
theorem dX4_copiesTo_50 : decode cX4_copiesTo 50 = .ok (.iload 4, 2) := dk_21 4 (dk_at dksX4_copiesTo_2 2 rfl rfl)
theorem dX4_copiesTo_52 : decode cX4_copiesTo 52 = .ok (.invokestatic 178, 3) := dk_184 0 178 (dk_at dksX4_copiesTo_2 4 rfl rfl)
theorem dX4_copiesTo_55 : decode cX4_copiesTo 55 = .ok (.istore 5, 2) := dk_54 5 (dk_at dksX4_copiesTo_2 7 rfl rfl)
theorem dX4_copiesTo_57 : decode cX4_copiesTo 57 = .ok (.iconst 2, 1) := dk_5 (dk_at dksX4_copiesTo_2 9 rfl rfl)
theorem dX4_copiesTo_58 : decode cX4_copiesTo 58 = .ok (.iload_n 2, 1) := dk_28 (dk_at dksX4_copiesTo_2 10 rfl rfl)
theorem dX4_copiesTo_59 : decode cX4_copiesTo 59 = .ok (.imul, 1) := dk_104 (dk_at dksX4_copiesTo_2 11 rfl rfl)
theorem dX4_copiesTo_60 : decode cX4_copiesTo 60 = .ok (.iload_n 3, 1) := dk_29 (dk_at dksX4_copiesTo_2 12 rfl rfl)
theorem dX4_copiesTo_61 : decode cX4_copiesTo 61 = .ok (.iadd, 1) := dk_96 (dk_at dksX4_copiesTo_2 13 rfl rfl)
theorem dX4_copiesTo_62 : decode cX4_copiesTo 62 = .ok (.iload 4, 2) := dk_21 4 (dk_at dksX4_copiesTo_2 14 rfl rfl)
theorem dX4_copiesTo_64 : decode cX4_copiesTo 64 = .ok (.invokestatic 178, 3) := dk_184 0 178 (dk_at dksX4_copiesTo_2 16 rfl rfl)
theorem dX4_copiesTo_67 : decode cX4_copiesTo 67 = .ok (.istore 6, 2) := dk_54 6 (dk_at dksX4_copiesTo_2 19 rfl rfl)
theorem dX4_copiesTo_69 : decode cX4_copiesTo 69 = .ok (.aload_n 0, 1) := dk_42 (dk_at dksX4_copiesTo_2 21 rfl rfl)
theorem dX4_copiesTo_70 : decode cX4_copiesTo 70 = .ok (.getfield 69, 3) := dk_180 0 69 (dk_at dksX4_copiesTo_3 0 rfl rfl)
theorem dX4_copiesTo_73 : decode cX4_copiesTo 73 = .ok (.iload 6, 2) := dk_21 6 (dk_at dksX4_copiesTo_3 3 rfl rfl)
theorem dX4_copiesTo_75 : decode cX4_copiesTo 75 = .ok (.aload_n 0, 1) := dk_42 (dk_at dksX4_copiesTo_3 5 rfl rfl)
theorem dX4_copiesTo_76 : decode cX4_copiesTo 76 = .ok (.getfield 69, 3) := dk_180 0 69 (dk_at dksX4_copiesTo_3 6 rfl rfl)
theorem dX4_copiesTo_79 : decode cX4_copiesTo 79 = .ok (.iload 5, 2) := dk_21 5 (dk_at dksX4_copiesTo_3 9 rfl rfl)
theorem dX4_copiesTo_81 : decode cX4_copiesTo 81 = .ok (.iaload, 1) := dk_46 (dk_at dksX4_copiesTo_3 11 rfl rfl)
theorem dX4_copiesTo_82 : decode cX4_copiesTo 82 = .ok (.iastore, 1) := dk_79 (dk_at dksX4_copiesTo_3 12 rfl rfl)
theorem dX4_copiesTo_83 : decode cX4_copiesTo 83 = .ok (.aload_n 0, 1) := dk_42 (dk_at dksX4_copiesTo_3 13 rfl rfl)
theorem dX4_copiesTo_84 : decode cX4_copiesTo 84 = .ok (.getfield 72, 3) := dk_180 0 72 (dk_at dksX4_copiesTo_3 14 rfl rfl)
theorem dX4_copiesTo_87 : decode cX4_copiesTo 87 = .ok (.iload 6, 2) := dk_21 6 (dk_at dksX4_copiesTo_3 17 rfl rfl)
theorem dX4_copiesTo_89 : decode cX4_copiesTo 89 = .ok (.aload_n 0, 1) := dk_42 (dk_at dksX4_copiesTo_3 19 rfl rfl)
theorem dX4_copiesTo_90 : decode cX4_copiesTo 90 = .ok (.getfield 72, 3) := dk_180 0 72 (dk_at dksX4_copiesTo_3 20 rfl rfl)
theorem dX4_copiesTo_93 : decode cX4_copiesTo 93 = .ok (.iload 5, 2) := dk_21 5 (dk_at dksX4_copiesTo_4 0 rfl rfl)
theorem dX4_copiesTo_95 : decode cX4_copiesTo 95 = .ok (.iaload, 1) := dk_46 (dk_at dksX4_copiesTo_4 2 rfl rfl)
theorem dX4_copiesTo_96 : decode cX4_copiesTo 96 = .ok (.iastore, 1) := dk_79 (dk_at dksX4_copiesTo_4 3 rfl rfl)
theorem dX4_copiesTo_97 : decode cX4_copiesTo 97 = .ok (.aload_n 0, 1) := dk_42 (dk_at dksX4_copiesTo_4 4 rfl rfl)
theorem dX4_copiesTo_98 : decode cX4_copiesTo 98 = .ok (.getfield 75, 3) := dk_180 0 75 (dk_at dksX4_copiesTo_4 5 rfl rfl)
theorem dX4_copiesTo_101 : decode cX4_copiesTo 101 = .ok (.iload 6, 2) := dk_21 6 (dk_at dksX4_copiesTo_4 8 rfl rfl)
theorem dX4_copiesTo_103 : decode cX4_copiesTo 103 = .ok (.aload_n 0, 1) := dk_42 (dk_at dksX4_copiesTo_4 10 rfl rfl)
theorem dX4_copiesTo_104 : decode cX4_copiesTo 104 = .ok (.getfield 75, 3) := dk_180 0 75 (dk_at dksX4_copiesTo_4 11 rfl rfl)
theorem dX4_copiesTo_107 : decode cX4_copiesTo 107 = .ok (.iload 5, 2) := dk_21 5 (dk_at dksX4_copiesTo_4 14 rfl rfl)
theorem dX4_copiesTo_109 : decode cX4_copiesTo 109 = .ok (.laload, 1) := dk_47 (dk_at dksX4_copiesTo_4 16 rfl rfl)
theorem dX4_copiesTo_110 : decode cX4_copiesTo 110 = .ok (.lastore, 1) := dk_80 (dk_at dksX4_copiesTo_4 17 rfl rfl)
theorem dX4_copiesTo_111 : decode cX4_copiesTo 111 = .ok (.aload_n 0, 1) := dk_42 (dk_at dksX4_copiesTo_4 18 rfl rfl)
theorem dX4_copiesTo_112 : decode cX4_copiesTo 112 = .ok (.getfield 78, 3) := dk_180 0 78 (dk_at dksX4_copiesTo_4 19 rfl rfl)
theorem dX4_copiesTo_115 : decode cX4_copiesTo 115 = .ok (.iload 6, 2) := dk_21 6 (dk_at dksX4_copiesTo_4 22 rfl rfl)
theorem dX4_copiesTo_117 : decode cX4_copiesTo 117 = .ok (.aload_n 0, 1) := dk_42 (dk_at dksX4_copiesTo_5 0 rfl rfl)
theorem dX4_copiesTo_118 : decode cX4_copiesTo 118 = .ok (.getfield 78, 3) := dk_180 0 78 (dk_at dksX4_copiesTo_5 1 rfl rfl)
theorem dX4_copiesTo_121 : decode cX4_copiesTo 121 = .ok (.iload 5, 2) := dk_21 5 (dk_at dksX4_copiesTo_5 4 rfl rfl)
theorem dX4_copiesTo_123 : decode cX4_copiesTo 123 = .ok (.laload, 1) := dk_47 (dk_at dksX4_copiesTo_5 6 rfl rfl)
theorem dX4_copiesTo_124 : decode cX4_copiesTo 124 = .ok (.lastore, 1) := dk_80 (dk_at dksX4_copiesTo_5 7 rfl rfl)
theorem dX4_copiesTo_125 : decode cX4_copiesTo 125 = .ok (.iinc 4 1, 3) := dk_132 4 1 (dk_at dksX4_copiesTo_5 8 rfl rfl)
theorem dX4_copiesTo_128 : decode cX4_copiesTo 128 = .ok (.goto (-98), 3) := dk_167 255 158 (dk_at dksX4_copiesTo_5 11 rfl rfl)
theorem dX4_copiesTo_131 : decode cX4_copiesTo 131 = .ok (.iinc 3 1, 3) := dk_132 3 1 (dk_at dksX4_copiesTo_5 14 rfl rfl)
theorem dX4_copiesTo_134 : decode cX4_copiesTo 134 = .ok (.goto (-132), 3) := dk_167 255 124 (dk_at dksX4_copiesTo_5 17 rfl rfl)
theorem dX4_copiesTo_137 : decode cX4_copiesTo 137 = .ok (.return_, 1) := dk_177 (dk_at dksX4_copiesTo_5 20 rfl rfl)
def dkwX4_joins_3 : List UInt8 := [4, 96, 21, 4, 182, 0, 193, 167, 255, 229, 42, 29, 42, 27, 182, 0, 187, 182, 0, 246, 172]
abbrev dktX4_joins_3 : List UInt8 := dkwX4_joins_3 ++ []
def dkwX4_joins_2 : List UInt8 := [7, 182, 0, 249, 42, 7, 182, 0, 187, 158, 0, 25, 42, 7, 3, 182, 0, 243, 54, 4, 42, 5, 27, 104]
abbrev dktX4_joins_2 : List UInt8 := dkwX4_joins_2 ++ dktX4_joins_3
def dkwX4_joins_1 : List UInt8 := [182, 0, 187, 42, 28, 182, 0, 187, 96, 16, 64, 164, 0, 6, 16, 253, 172, 42, 180, 0, 184, 62, 42, 28]
abbrev dktX4_joins_1 : List UInt8 := dkwX4_joins_1 ++ dktX4_joins_2
def dkwX4_joins_0 : List UInt8 := [42, 3, 181, 0, 1, 27, 184, 0, 237, 153, 0, 10, 28, 184, 0, 237, 154, 0, 5, 2, 172, 42, 27]
abbrev dktX4_joins_0 : List UInt8 := dkwX4_joins_0 ++ dktX4_joins_1
theorem dksX4_joins_0 : cX4_joins.data.toList.drop 0 = dktX4_joins_0 := by decide +kernel
theorem dksX4_joins_1 : cX4_joins.data.toList.drop 23 = dktX4_joins_1 := dk_seg dksX4_joins_0 23 rfl rfl
theorem dksX4_joins_2 : cX4_joins.data.toList.drop 47 = dktX4_joins_2 := dk_seg dksX4_joins_1 24 rfl rfl
theorem dksX4_joins_3 : cX4_joins.data.toList.drop 71 = dktX4_joins_3 := dk_seg dksX4_joins_2 24 rfl rfl
theorem dX4_joins_0 : decode cX4_joins 0 = .ok (.aload_n 0, 1) := dk_42 (dk_at dksX4_joins_0 0 rfl rfl)
theorem dX4_joins_1 : decode cX4_joins 1 = .ok (.iconst 0, 1) := dk_3 (dk_at dksX4_joins_0 1 rfl rfl)
theorem dX4_joins_2 : decode cX4_joins 2 = .ok (.putfield 1, 3) := dk_181 0 1 (dk_at dksX4_joins_0 2 rfl rfl)
theorem dX4_joins_5 : decode cX4_joins 5 = .ok (.iload_n 1, 1) := dk_27 (dk_at dksX4_joins_0 5 rfl rfl)
theorem dX4_joins_6 : decode cX4_joins 6 = .ok (.invokestatic 237, 3) := dk_184 0 237 (dk_at dksX4_joins_0 6 rfl rfl)
theorem dX4_joins_9 : decode cX4_joins 9 = .ok (.ifCond .eq 10, 3) := dk_153 0 10 (dk_at dksX4_joins_0 9 rfl rfl)
theorem dX4_joins_12 : decode cX4_joins 12 = .ok (.iload_n 2, 1) := dk_28 (dk_at dksX4_joins_0 12 rfl rfl)
theorem dX4_joins_13 : decode cX4_joins 13 = .ok (.invokestatic 237, 3) := dk_184 0 237 (dk_at dksX4_joins_0 13 rfl rfl)
theorem dX4_joins_16 : decode cX4_joins 16 = .ok (.ifCond .ne 5, 3) := dk_154 0 5 (dk_at dksX4_joins_0 16 rfl rfl)
theorem dX4_joins_19 : decode cX4_joins 19 = .ok (.iconst (-1), 1) := dk_2 (dk_at dksX4_joins_0 19 rfl rfl)
theorem dX4_joins_20 : decode cX4_joins 20 = .ok (.ireturn, 1) := dk_172 (dk_at dksX4_joins_0 20 rfl rfl)
theorem dX4_joins_21 : decode cX4_joins 21 = .ok (.aload_n 0, 1) := dk_42 (dk_at dksX4_joins_0 21 rfl rfl)
theorem dX4_joins_22 : decode cX4_joins 22 = .ok (.iload_n 1, 1) := dk_27 (dk_at dksX4_joins_0 22 rfl rfl)
theorem dX4_joins_23 : decode cX4_joins 23 = .ok (.invokevirtual 187, 3) := dk_182 0 187 (dk_at dksX4_joins_1 0 rfl rfl)
theorem dX4_joins_26 : decode cX4_joins 26 = .ok (.aload_n 0, 1) := dk_42 (dk_at dksX4_joins_1 3 rfl rfl)
theorem dX4_joins_27 : decode cX4_joins 27 = .ok (.iload_n 2, 1) := dk_28 (dk_at dksX4_joins_1 4 rfl rfl)
theorem dX4_joins_28 : decode cX4_joins 28 = .ok (.invokevirtual 187, 3) := dk_182 0 187 (dk_at dksX4_joins_1 5 rfl rfl)
theorem dX4_joins_31 : decode cX4_joins 31 = .ok (.iadd, 1) := dk_96 (dk_at dksX4_joins_1 8 rfl rfl)
theorem dX4_joins_32 : decode cX4_joins 32 = .ok (.bipush 64, 2) := dk_16 64 (dk_at dksX4_joins_1 9 rfl rfl)
theorem dX4_joins_34 : decode cX4_joins 34 = .ok (.if_icmp .le 6, 3) := dk_164 0 6 (dk_at dksX4_joins_1 11 rfl rfl)
theorem dX4_joins_37 : decode cX4_joins 37 = .ok (.bipush (-3), 2) := dk_16 253 (dk_at dksX4_joins_1 14 rfl rfl)
theorem dX4_joins_39 : decode cX4_joins 39 = .ok (.ireturn, 1) := dk_172 (dk_at dksX4_joins_1 16 rfl rfl)
theorem dX4_joins_40 : decode cX4_joins 40 = .ok (.aload_n 0, 1) := dk_42 (dk_at dksX4_joins_1 17 rfl rfl)
theorem dX4_joins_41 : decode cX4_joins 41 = .ok (.getfield 184, 3) := dk_180 0 184 (dk_at dksX4_joins_1 18 rfl rfl)
theorem dX4_joins_44 : decode cX4_joins 44 = .ok (.istore_n 3, 1) := dk_62 (dk_at dksX4_joins_1 21 rfl rfl)
theorem dX4_joins_45 : decode cX4_joins 45 = .ok (.aload_n 0, 1) := dk_42 (dk_at dksX4_joins_1 22 rfl rfl)
theorem dX4_joins_46 : decode cX4_joins 46 = .ok (.iload_n 2, 1) := dk_28 (dk_at dksX4_joins_1 23 rfl rfl)
theorem dX4_joins_47 : decode cX4_joins 47 = .ok (.iconst 4, 1) := dk_7 (dk_at dksX4_joins_2 0 rfl rfl)
theorem dX4_joins_48 : decode cX4_joins 48 = .ok (.invokevirtual 249, 3) := dk_182 0 249 (dk_at dksX4_joins_2 1 rfl rfl)
theorem dX4_joins_51 : decode cX4_joins 51 = .ok (.aload_n 0, 1) := dk_42 (dk_at dksX4_joins_2 4 rfl rfl)
theorem dX4_joins_52 : decode cX4_joins 52 = .ok (.iconst 4, 1) := dk_7 (dk_at dksX4_joins_2 5 rfl rfl)
theorem dX4_joins_53 : decode cX4_joins 53 = .ok (.invokevirtual 187, 3) := dk_182 0 187 (dk_at dksX4_joins_2 6 rfl rfl)
theorem dX4_joins_56 : decode cX4_joins 56 = .ok (.ifCond .le 25, 3) := dk_158 0 25 (dk_at dksX4_joins_2 9 rfl rfl)
theorem dX4_joins_59 : decode cX4_joins 59 = .ok (.aload_n 0, 1) := dk_42 (dk_at dksX4_joins_2 12 rfl rfl)
theorem dX4_joins_60 : decode cX4_joins 60 = .ok (.iconst 4, 1) := dk_7 (dk_at dksX4_joins_2 13 rfl rfl)
theorem dX4_joins_61 : decode cX4_joins 61 = .ok (.iconst 0, 1) := dk_3 (dk_at dksX4_joins_2 14 rfl rfl)
theorem dX4_joins_62 : decode cX4_joins 62 = .ok (.invokevirtual 243, 3) := dk_182 0 243 (dk_at dksX4_joins_2 15 rfl rfl)
theorem dX4_joins_65 : decode cX4_joins 65 = .ok (.istore 4, 2) := dk_54 4 (dk_at dksX4_joins_2 18 rfl rfl)
theorem dX4_joins_67 : decode cX4_joins 67 = .ok (.aload_n 0, 1) := dk_42 (dk_at dksX4_joins_2 20 rfl rfl)
theorem dX4_joins_68 : decode cX4_joins 68 = .ok (.iconst 2, 1) := dk_5 (dk_at dksX4_joins_2 21 rfl rfl)
theorem dX4_joins_69 : decode cX4_joins 69 = .ok (.iload_n 1, 1) := dk_27 (dk_at dksX4_joins_2 22 rfl rfl)
theorem dX4_joins_70 : decode cX4_joins 70 = .ok (.imul, 1) := dk_104 (dk_at dksX4_joins_2 23 rfl rfl)
theorem dX4_joins_71 : decode cX4_joins 71 = .ok (.iconst 1, 1) := dk_4 (dk_at dksX4_joins_3 0 rfl rfl)
theorem dX4_joins_72 : decode cX4_joins 72 = .ok (.iadd, 1) := dk_96 (dk_at dksX4_joins_3 1 rfl rfl)
theorem dX4_joins_73 : decode cX4_joins 73 = .ok (.iload 4, 2) := dk_21 4 (dk_at dksX4_joins_3 2 rfl rfl)
theorem dX4_joins_75 : decode cX4_joins 75 = .ok (.invokevirtual 193, 3) := dk_182 0 193 (dk_at dksX4_joins_3 4 rfl rfl)
theorem dX4_joins_78 : decode cX4_joins 78 = .ok (.goto (-27), 3) := dk_167 255 229 (dk_at dksX4_joins_3 7 rfl rfl)
theorem dX4_joins_81 : decode cX4_joins 81 = .ok (.aload_n 0, 1) := dk_42 (dk_at dksX4_joins_3 10 rfl rfl)
theorem dX4_joins_82 : decode cX4_joins 82 = .ok (.iload_n 3, 1) := dk_29 (dk_at dksX4_joins_3 11 rfl rfl)
theorem dX4_joins_83 : decode cX4_joins 83 = .ok (.aload_n 0, 1) := dk_42 (dk_at dksX4_joins_3 12 rfl rfl)
theorem dX4_joins_84 : decode cX4_joins 84 = .ok (.iload_n 1, 1) := dk_27 (dk_at dksX4_joins_3 13 rfl rfl)
theorem dX4_joins_85 : decode cX4_joins 85 = .ok (.invokevirtual 187, 3) := dk_182 0 187 (dk_at dksX4_joins_3 14 rfl rfl)
theorem dX4_joins_88 : decode cX4_joins 88 = .ok (.invokevirtual 246, 3) := dk_182 0 246 (dk_at dksX4_joins_3 17 rfl rfl)
theorem dX4_joins_91 : decode cX4_joins 91 = .ok (.ireturn, 1) := dk_172 (dk_at dksX4_joins_3 20 rfl rfl)
def dkwX4_parts_3 : List UInt8 := [28, 100, 21, 4, 28, 100, 4, 96, 5, 108, 182, 0, 199, 21, 4, 28, 100, 172]
abbrev dktX4_parts_3 : List UInt8 := dkwX4_parts_3 ++ []
def dkwX4_parts_2 : List UInt8 := [172, 42, 27, 182, 0, 196, 87, 42, 27, 3, 28, 28, 4, 96, 5, 108, 182, 0, 199, 42, 29, 28, 21, 4]
abbrev dktX4_parts_2 : List UInt8 := dkwX4_parts_2 ++ dktX4_parts_3
def dkwX4_parts_1 : List UInt8 := [172, 27, 29, 160, 0, 6, 16, 254, 172, 42, 27, 182, 0, 187, 54, 4, 28, 21, 4, 164, 0, 6, 16, 253]
abbrev dktX4_parts_1 : List UInt8 := dkwX4_parts_1 ++ dktX4_parts_2
def dkwX4_parts_0 : List UInt8 := [42, 3, 181, 0, 1, 27, 184, 0, 237, 153, 0, 14, 29, 184, 0, 237, 153, 0, 7, 28, 156, 0, 5, 2]
abbrev dktX4_parts_0 : List UInt8 := dkwX4_parts_0 ++ dktX4_parts_1
theorem dksX4_parts_0 : cX4_parts.data.toList.drop 0 = dktX4_parts_0 := by decide +kernel
theorem dksX4_parts_1 : cX4_parts.data.toList.drop 24 = dktX4_parts_1 := dk_seg dksX4_parts_0 24 rfl rfl
theorem dksX4_parts_2 : cX4_parts.data.toList.drop 48 = dktX4_parts_2 := dk_seg dksX4_parts_1 24 rfl rfl
theorem dksX4_parts_3 : cX4_parts.data.toList.drop 72 = dktX4_parts_3 := dk_seg dksX4_parts_2 24 rfl rfl
theorem dX4_parts_0 : decode cX4_parts 0 = .ok (.aload_n 0, 1) := dk_42 (dk_at dksX4_parts_0 0 rfl rfl)
theorem dX4_parts_1 : decode cX4_parts 1 = .ok (.iconst 0, 1) := dk_3 (dk_at dksX4_parts_0 1 rfl rfl)
theorem dX4_parts_2 : decode cX4_parts 2 = .ok (.putfield 1, 3) := dk_181 0 1 (dk_at dksX4_parts_0 2 rfl rfl)
theorem dX4_parts_5 : decode cX4_parts 5 = .ok (.iload_n 1, 1) := dk_27 (dk_at dksX4_parts_0 5 rfl rfl)
theorem dX4_parts_6 : decode cX4_parts 6 = .ok (.invokestatic 237, 3) := dk_184 0 237 (dk_at dksX4_parts_0 6 rfl rfl)
theorem dX4_parts_9 : decode cX4_parts 9 = .ok (.ifCond .eq 14, 3) := dk_153 0 14 (dk_at dksX4_parts_0 9 rfl rfl)
theorem dX4_parts_12 : decode cX4_parts 12 = .ok (.iload_n 3, 1) := dk_29 (dk_at dksX4_parts_0 12 rfl rfl)
theorem dX4_parts_13 : decode cX4_parts 13 = .ok (.invokestatic 237, 3) := dk_184 0 237 (dk_at dksX4_parts_0 13 rfl rfl)
theorem dX4_parts_16 : decode cX4_parts 16 = .ok (.ifCond .eq 7, 3) := dk_153 0 7 (dk_at dksX4_parts_0 16 rfl rfl)
theorem dX4_parts_19 : decode cX4_parts 19 = .ok (.iload_n 2, 1) := dk_28 (dk_at dksX4_parts_0 19 rfl rfl)
theorem dX4_parts_20 : decode cX4_parts 20 = .ok (.ifCond .ge 5, 3) := dk_156 0 5 (dk_at dksX4_parts_0 20 rfl rfl)
theorem dX4_parts_23 : decode cX4_parts 23 = .ok (.iconst (-1), 1) := dk_2 (dk_at dksX4_parts_0 23 rfl rfl)
theorem dX4_parts_24 : decode cX4_parts 24 = .ok (.ireturn, 1) := dk_172 (dk_at dksX4_parts_1 0 rfl rfl)
theorem dX4_parts_25 : decode cX4_parts 25 = .ok (.iload_n 1, 1) := dk_27 (dk_at dksX4_parts_1 1 rfl rfl)
theorem dX4_parts_26 : decode cX4_parts 26 = .ok (.iload_n 3, 1) := dk_29 (dk_at dksX4_parts_1 2 rfl rfl)
theorem dX4_parts_27 : decode cX4_parts 27 = .ok (.if_icmp .ne 6, 3) := dk_160 0 6 (dk_at dksX4_parts_1 3 rfl rfl)
theorem dX4_parts_30 : decode cX4_parts 30 = .ok (.bipush (-2), 2) := dk_16 254 (dk_at dksX4_parts_1 6 rfl rfl)
theorem dX4_parts_32 : decode cX4_parts 32 = .ok (.ireturn, 1) := dk_172 (dk_at dksX4_parts_1 8 rfl rfl)
theorem dX4_parts_33 : decode cX4_parts 33 = .ok (.aload_n 0, 1) := dk_42 (dk_at dksX4_parts_1 9 rfl rfl)
theorem dX4_parts_34 : decode cX4_parts 34 = .ok (.iload_n 1, 1) := dk_27 (dk_at dksX4_parts_1 10 rfl rfl)
theorem dX4_parts_35 : decode cX4_parts 35 = .ok (.invokevirtual 187, 3) := dk_182 0 187 (dk_at dksX4_parts_1 11 rfl rfl)
theorem dX4_parts_38 : decode cX4_parts 38 = .ok (.istore 4, 2) := dk_54 4 (dk_at dksX4_parts_1 14 rfl rfl)
theorem dX4_parts_40 : decode cX4_parts 40 = .ok (.iload_n 2, 1) := dk_28 (dk_at dksX4_parts_1 16 rfl rfl)
theorem dX4_parts_41 : decode cX4_parts 41 = .ok (.iload 4, 2) := dk_21 4 (dk_at dksX4_parts_1 17 rfl rfl)
theorem dX4_parts_43 : decode cX4_parts 43 = .ok (.if_icmp .le 6, 3) := dk_164 0 6 (dk_at dksX4_parts_1 19 rfl rfl)
theorem dX4_parts_46 : decode cX4_parts 46 = .ok (.bipush (-3), 2) := dk_16 253 (dk_at dksX4_parts_1 22 rfl rfl)
theorem dX4_parts_48 : decode cX4_parts 48 = .ok (.ireturn, 1) := dk_172 (dk_at dksX4_parts_2 0 rfl rfl)
theorem dX4_parts_49 : decode cX4_parts 49 = .ok (.aload_n 0, 1) := dk_42 (dk_at dksX4_parts_2 1 rfl rfl)
theorem dX4_parts_50 : decode cX4_parts 50 = .ok (.iload_n 1, 1) := dk_27 (dk_at dksX4_parts_2 2 rfl rfl)
theorem dX4_parts_51 : decode cX4_parts 51 = .ok (.invokevirtual 196, 3) := dk_182 0 196 (dk_at dksX4_parts_2 3 rfl rfl)
theorem dX4_parts_54 : decode cX4_parts 54 = .ok (.pop, 1) := dk_87 (dk_at dksX4_parts_2 6 rfl rfl)
theorem dX4_parts_55 : decode cX4_parts 55 = .ok (.aload_n 0, 1) := dk_42 (dk_at dksX4_parts_2 7 rfl rfl)
theorem dX4_parts_56 : decode cX4_parts 56 = .ok (.iload_n 1, 1) := dk_27 (dk_at dksX4_parts_2 8 rfl rfl)
theorem dX4_parts_57 : decode cX4_parts 57 = .ok (.iconst 0, 1) := dk_3 (dk_at dksX4_parts_2 9 rfl rfl)
theorem dX4_parts_58 : decode cX4_parts 58 = .ok (.iload_n 2, 1) := dk_28 (dk_at dksX4_parts_2 10 rfl rfl)
theorem dX4_parts_59 : decode cX4_parts 59 = .ok (.iload_n 2, 1) := dk_28 (dk_at dksX4_parts_2 11 rfl rfl)
theorem dX4_parts_60 : decode cX4_parts 60 = .ok (.iconst 1, 1) := dk_4 (dk_at dksX4_parts_2 12 rfl rfl)
theorem dX4_parts_61 : decode cX4_parts 61 = .ok (.iadd, 1) := dk_96 (dk_at dksX4_parts_2 13 rfl rfl)
theorem dX4_parts_62 : decode cX4_parts 62 = .ok (.iconst 2, 1) := dk_5 (dk_at dksX4_parts_2 14 rfl rfl)
theorem dX4_parts_63 : decode cX4_parts 63 = .ok (.idiv, 1) := dk_108 (dk_at dksX4_parts_2 15 rfl rfl)
theorem dX4_parts_64 : decode cX4_parts 64 = .ok (.invokevirtual 199, 3) := dk_182 0 199 (dk_at dksX4_parts_2 16 rfl rfl)
theorem dX4_parts_67 : decode cX4_parts 67 = .ok (.aload_n 0, 1) := dk_42 (dk_at dksX4_parts_2 19 rfl rfl)
theorem dX4_parts_68 : decode cX4_parts 68 = .ok (.iload_n 3, 1) := dk_29 (dk_at dksX4_parts_2 20 rfl rfl)
theorem dX4_parts_69 : decode cX4_parts 69 = .ok (.iload_n 2, 1) := dk_28 (dk_at dksX4_parts_2 21 rfl rfl)
theorem dX4_parts_70 : decode cX4_parts 70 = .ok (.iload 4, 2) := dk_21 4 (dk_at dksX4_parts_2 22 rfl rfl)
theorem dX4_parts_72 : decode cX4_parts 72 = .ok (.iload_n 2, 1) := dk_28 (dk_at dksX4_parts_3 0 rfl rfl)
theorem dX4_parts_73 : decode cX4_parts 73 = .ok (.isub, 1) := dk_100 (dk_at dksX4_parts_3 1 rfl rfl)
theorem dX4_parts_74 : decode cX4_parts 74 = .ok (.iload 4, 2) := dk_21 4 (dk_at dksX4_parts_3 2 rfl rfl)
theorem dX4_parts_76 : decode cX4_parts 76 = .ok (.iload_n 2, 1) := dk_28 (dk_at dksX4_parts_3 4 rfl rfl)
theorem dX4_parts_77 : decode cX4_parts 77 = .ok (.isub, 1) := dk_100 (dk_at dksX4_parts_3 5 rfl rfl)
theorem dX4_parts_78 : decode cX4_parts 78 = .ok (.iconst 1, 1) := dk_4 (dk_at dksX4_parts_3 6 rfl rfl)
theorem dX4_parts_79 : decode cX4_parts 79 = .ok (.iadd, 1) := dk_96 (dk_at dksX4_parts_3 7 rfl rfl)
theorem dX4_parts_80 : decode cX4_parts 80 = .ok (.iconst 2, 1) := dk_5 (dk_at dksX4_parts_3 8 rfl rfl)
theorem dX4_parts_81 : decode cX4_parts 81 = .ok (.idiv, 1) := dk_108 (dk_at dksX4_parts_3 9 rfl rfl)
theorem dX4_parts_82 : decode cX4_parts 82 = .ok (.invokevirtual 199, 3) := dk_182 0 199 (dk_at dksX4_parts_3 10 rfl rfl)
theorem dX4_parts_85 : decode cX4_parts 85 = .ok (.iload 4, 2) := dk_21 4 (dk_at dksX4_parts_3 13 rfl rfl)
theorem dX4_parts_87 : decode cX4_parts 87 = .ok (.iload_n 2, 1) := dk_28 (dk_at dksX4_parts_3 15 rfl rfl)
theorem dX4_parts_88 : decode cX4_parts 88 = .ok (.isub, 1) := dk_100 (dk_at dksX4_parts_3 16 rfl rfl)
theorem dX4_parts_89 : decode cX4_parts 89 = .ok (.ireturn, 1) := dk_172 (dk_at dksX4_parts_3 17 rfl rfl)
def dkwX4_reverses_0 : List UInt8 := [42, 3, 181, 0, 1, 27, 184, 0, 237, 154, 0, 5, 2, 172, 42, 27, 182, 0, 252, 172]
abbrev dktX4_reverses_0 : List UInt8 := dkwX4_reverses_0 ++ []
theorem dksX4_reverses_0 : cX4_reverses.data.toList.drop 0 = dktX4_reverses_0 := by decide +kernel
theorem dX4_reverses_0 : decode cX4_reverses 0 = .ok (.aload_n 0, 1) := dk_42 (dk_at dksX4_reverses_0 0 rfl rfl)
theorem dX4_reverses_1 : decode cX4_reverses 1 = .ok (.iconst 0, 1) := dk_3 (dk_at dksX4_reverses_0 1 rfl rfl)
theorem dX4_reverses_2 : decode cX4_reverses 2 = .ok (.putfield 1, 3) := dk_181 0 1 (dk_at dksX4_reverses_0 2 rfl rfl)
theorem dX4_reverses_5 : decode cX4_reverses 5 = .ok (.iload_n 1, 1) := dk_27 (dk_at dksX4_reverses_0 5 rfl rfl)
theorem dX4_reverses_6 : decode cX4_reverses 6 = .ok (.invokestatic 237, 3) := dk_184 0 237 (dk_at dksX4_reverses_0 6 rfl rfl)
theorem dX4_reverses_9 : decode cX4_reverses 9 = .ok (.ifCond .ne 5, 3) := dk_154 0 5 (dk_at dksX4_reverses_0 9 rfl rfl)
theorem dX4_reverses_12 : decode cX4_reverses 12 = .ok (.iconst (-1), 1) := dk_2 (dk_at dksX4_reverses_0 12 rfl rfl)
theorem dX4_reverses_13 : decode cX4_reverses 13 = .ok (.ireturn, 1) := dk_172 (dk_at dksX4_reverses_0 13 rfl rfl)
theorem dX4_reverses_14 : decode cX4_reverses 14 = .ok (.aload_n 0, 1) := dk_42 (dk_at dksX4_reverses_0 14 rfl rfl)
theorem dX4_reverses_15 : decode cX4_reverses 15 = .ok (.iload_n 1, 1) := dk_27 (dk_at dksX4_reverses_0 15 rfl rfl)
theorem dX4_reverses_16 : decode cX4_reverses 16 = .ok (.invokevirtual 252, 3) := dk_182 0 252 (dk_at dksX4_reverses_0 16 rfl rfl)
theorem dX4_reverses_19 : decode cX4_reverses 19 = .ok (.ireturn, 1) := dk_172 (dk_at dksX4_reverses_0 19 rfl rfl)
def dkwX4_turns_3 : List UInt8 := [167, 255, 205, 42, 27, 3, 29, 28, 182, 0, 199, 29, 172]
abbrev dktX4_turns_3 : List UInt8 := dkwX4_turns_3 ++ []
def dkwX4_turns_2 : List UInt8 := [4, 100, 21, 4, 100, 46, 79, 42, 180, 0, 81, 29, 4, 100, 21, 4, 100, 21, 5, 79, 132, 4, 1]
abbrev dktX4_turns_2 : List UInt8 := dkwX4_turns_2 ++ dktX4_turns_3
def dkwX4_turns_1 : List UInt8 := [108, 162, 0, 49, 42, 180, 0, 81, 21, 4, 46, 54, 5, 42, 180, 0, 81, 21, 4, 42, 180, 0, 81, 29]
abbrev dktX4_turns_1 : List UInt8 := dkwX4_turns_1 ++ dktX4_turns_2
def dkwX4_turns_0 : List UInt8 := [42, 180, 0, 66, 5, 27, 104, 4, 96, 46, 61, 42, 27, 182, 0, 196, 62, 3, 54, 4, 21, 4, 29, 5]
abbrev dktX4_turns_0 : List UInt8 := dkwX4_turns_0 ++ dktX4_turns_1
theorem dksX4_turns_0 : cX4_turns.data.toList.drop 0 = dktX4_turns_0 := by decide +kernel
theorem dksX4_turns_1 : cX4_turns.data.toList.drop 24 = dktX4_turns_1 := dk_seg dksX4_turns_0 24 rfl rfl
theorem dksX4_turns_2 : cX4_turns.data.toList.drop 48 = dktX4_turns_2 := dk_seg dksX4_turns_1 24 rfl rfl
theorem dksX4_turns_3 : cX4_turns.data.toList.drop 71 = dktX4_turns_3 := dk_seg dksX4_turns_2 23 rfl rfl
theorem dX4_turns_0 : decode cX4_turns 0 = .ok (.aload_n 0, 1) := dk_42 (dk_at dksX4_turns_0 0 rfl rfl)
theorem dX4_turns_1 : decode cX4_turns 1 = .ok (.getfield 66, 3) := dk_180 0 66 (dk_at dksX4_turns_0 1 rfl rfl)
theorem dX4_turns_4 : decode cX4_turns 4 = .ok (.iconst 2, 1) := dk_5 (dk_at dksX4_turns_0 4 rfl rfl)
theorem dX4_turns_5 : decode cX4_turns 5 = .ok (.iload_n 1, 1) := dk_27 (dk_at dksX4_turns_0 5 rfl rfl)
theorem dX4_turns_6 : decode cX4_turns 6 = .ok (.imul, 1) := dk_104 (dk_at dksX4_turns_0 6 rfl rfl)
theorem dX4_turns_7 : decode cX4_turns 7 = .ok (.iconst 1, 1) := dk_4 (dk_at dksX4_turns_0 7 rfl rfl)
theorem dX4_turns_8 : decode cX4_turns 8 = .ok (.iadd, 1) := dk_96 (dk_at dksX4_turns_0 8 rfl rfl)
theorem dX4_turns_9 : decode cX4_turns 9 = .ok (.iaload, 1) := dk_46 (dk_at dksX4_turns_0 9 rfl rfl)
theorem dX4_turns_10 : decode cX4_turns 10 = .ok (.istore_n 2, 1) := dk_61 (dk_at dksX4_turns_0 10 rfl rfl)
theorem dX4_turns_11 : decode cX4_turns 11 = .ok (.aload_n 0, 1) := dk_42 (dk_at dksX4_turns_0 11 rfl rfl)
theorem dX4_turns_12 : decode cX4_turns 12 = .ok (.iload_n 1, 1) := dk_27 (dk_at dksX4_turns_0 12 rfl rfl)
theorem dX4_turns_13 : decode cX4_turns 13 = .ok (.invokevirtual 196, 3) := dk_182 0 196 (dk_at dksX4_turns_0 13 rfl rfl)
theorem dX4_turns_16 : decode cX4_turns 16 = .ok (.istore_n 3, 1) := dk_62 (dk_at dksX4_turns_0 16 rfl rfl)
theorem dX4_turns_17 : decode cX4_turns 17 = .ok (.iconst 0, 1) := dk_3 (dk_at dksX4_turns_0 17 rfl rfl)
theorem dX4_turns_18 : decode cX4_turns 18 = .ok (.istore 4, 2) := dk_54 4 (dk_at dksX4_turns_0 18 rfl rfl)
theorem dX4_turns_20 : decode cX4_turns 20 = .ok (.iload 4, 2) := dk_21 4 (dk_at dksX4_turns_0 20 rfl rfl)
theorem dX4_turns_22 : decode cX4_turns 22 = .ok (.iload_n 3, 1) := dk_29 (dk_at dksX4_turns_0 22 rfl rfl)
theorem dX4_turns_23 : decode cX4_turns 23 = .ok (.iconst 2, 1) := dk_5 (dk_at dksX4_turns_0 23 rfl rfl)
theorem dX4_turns_24 : decode cX4_turns 24 = .ok (.idiv, 1) := dk_108 (dk_at dksX4_turns_1 0 rfl rfl)
theorem dX4_turns_25 : decode cX4_turns 25 = .ok (.if_icmp .ge 49, 3) := dk_162 0 49 (dk_at dksX4_turns_1 1 rfl rfl)
theorem dX4_turns_28 : decode cX4_turns 28 = .ok (.aload_n 0, 1) := dk_42 (dk_at dksX4_turns_1 4 rfl rfl)
theorem dX4_turns_29 : decode cX4_turns 29 = .ok (.getfield 81, 3) := dk_180 0 81 (dk_at dksX4_turns_1 5 rfl rfl)
theorem dX4_turns_32 : decode cX4_turns 32 = .ok (.iload 4, 2) := dk_21 4 (dk_at dksX4_turns_1 8 rfl rfl)
theorem dX4_turns_34 : decode cX4_turns 34 = .ok (.iaload, 1) := dk_46 (dk_at dksX4_turns_1 10 rfl rfl)
theorem dX4_turns_35 : decode cX4_turns 35 = .ok (.istore 5, 2) := dk_54 5 (dk_at dksX4_turns_1 11 rfl rfl)
theorem dX4_turns_37 : decode cX4_turns 37 = .ok (.aload_n 0, 1) := dk_42 (dk_at dksX4_turns_1 13 rfl rfl)
theorem dX4_turns_38 : decode cX4_turns 38 = .ok (.getfield 81, 3) := dk_180 0 81 (dk_at dksX4_turns_1 14 rfl rfl)
theorem dX4_turns_41 : decode cX4_turns 41 = .ok (.iload 4, 2) := dk_21 4 (dk_at dksX4_turns_1 17 rfl rfl)
theorem dX4_turns_43 : decode cX4_turns 43 = .ok (.aload_n 0, 1) := dk_42 (dk_at dksX4_turns_1 19 rfl rfl)
theorem dX4_turns_44 : decode cX4_turns 44 = .ok (.getfield 81, 3) := dk_180 0 81 (dk_at dksX4_turns_1 20 rfl rfl)
theorem dX4_turns_47 : decode cX4_turns 47 = .ok (.iload_n 3, 1) := dk_29 (dk_at dksX4_turns_1 23 rfl rfl)
theorem dX4_turns_48 : decode cX4_turns 48 = .ok (.iconst 1, 1) := dk_4 (dk_at dksX4_turns_2 0 rfl rfl)
theorem dX4_turns_49 : decode cX4_turns 49 = .ok (.isub, 1) := dk_100 (dk_at dksX4_turns_2 1 rfl rfl)
theorem dX4_turns_50 : decode cX4_turns 50 = .ok (.iload 4, 2) := dk_21 4 (dk_at dksX4_turns_2 2 rfl rfl)
theorem dX4_turns_52 : decode cX4_turns 52 = .ok (.isub, 1) := dk_100 (dk_at dksX4_turns_2 4 rfl rfl)
theorem dX4_turns_53 : decode cX4_turns 53 = .ok (.iaload, 1) := dk_46 (dk_at dksX4_turns_2 5 rfl rfl)
theorem dX4_turns_54 : decode cX4_turns 54 = .ok (.iastore, 1) := dk_79 (dk_at dksX4_turns_2 6 rfl rfl)
theorem dX4_turns_55 : decode cX4_turns 55 = .ok (.aload_n 0, 1) := dk_42 (dk_at dksX4_turns_2 7 rfl rfl)
theorem dX4_turns_56 : decode cX4_turns 56 = .ok (.getfield 81, 3) := dk_180 0 81 (dk_at dksX4_turns_2 8 rfl rfl)
theorem dX4_turns_59 : decode cX4_turns 59 = .ok (.iload_n 3, 1) := dk_29 (dk_at dksX4_turns_2 11 rfl rfl)
theorem dX4_turns_60 : decode cX4_turns 60 = .ok (.iconst 1, 1) := dk_4 (dk_at dksX4_turns_2 12 rfl rfl)
theorem dX4_turns_61 : decode cX4_turns 61 = .ok (.isub, 1) := dk_100 (dk_at dksX4_turns_2 13 rfl rfl)
theorem dX4_turns_62 : decode cX4_turns 62 = .ok (.iload 4, 2) := dk_21 4 (dk_at dksX4_turns_2 14 rfl rfl)
theorem dX4_turns_64 : decode cX4_turns 64 = .ok (.isub, 1) := dk_100 (dk_at dksX4_turns_2 16 rfl rfl)
theorem dX4_turns_65 : decode cX4_turns 65 = .ok (.iload 5, 2) := dk_21 5 (dk_at dksX4_turns_2 17 rfl rfl)
theorem dX4_turns_67 : decode cX4_turns 67 = .ok (.iastore, 1) := dk_79 (dk_at dksX4_turns_2 19 rfl rfl)
theorem dX4_turns_68 : decode cX4_turns 68 = .ok (.iinc 4 1, 3) := dk_132 4 1 (dk_at dksX4_turns_2 20 rfl rfl)
theorem dX4_turns_71 : decode cX4_turns 71 = .ok (.goto (-51), 3) := dk_167 255 205 (dk_at dksX4_turns_3 0 rfl rfl)
theorem dX4_turns_74 : decode cX4_turns 74 = .ok (.aload_n 0, 1) := dk_42 (dk_at dksX4_turns_3 3 rfl rfl)
theorem dX4_turns_75 : decode cX4_turns 75 = .ok (.iload_n 1, 1) := dk_27 (dk_at dksX4_turns_3 4 rfl rfl)
theorem dX4_turns_76 : decode cX4_turns 76 = .ok (.iconst 0, 1) := dk_3 (dk_at dksX4_turns_3 5 rfl rfl)
theorem dX4_turns_77 : decode cX4_turns 77 = .ok (.iload_n 3, 1) := dk_29 (dk_at dksX4_turns_3 6 rfl rfl)
theorem dX4_turns_78 : decode cX4_turns 78 = .ok (.iload_n 2, 1) := dk_28 (dk_at dksX4_turns_3 7 rfl rfl)
theorem dX4_turns_79 : decode cX4_turns 79 = .ok (.invokevirtual 199, 3) := dk_182 0 199 (dk_at dksX4_turns_3 8 rfl rfl)
theorem dX4_turns_82 : decode cX4_turns 82 = .ok (.iload_n 3, 1) := dk_29 (dk_at dksX4_turns_3 11 rfl rfl)
theorem dX4_turns_83 : decode cX4_turns 83 = .ok (.ireturn, 1) := dk_172 (dk_at dksX4_turns_3 12 rfl rfl)
def dkwX4_changes_6 : List UInt8 := [182, 0, 246, 172]
abbrev dktX4_changes_6 : List UInt8 := dkwX4_changes_6 ++ []
def dkwX4_changes_5 : List UInt8 := [28, 21, 7, 162, 0, 7, 4, 167, 0, 4, 3, 28, 21, 6, 182, 1, 3, 42, 21, 5, 21, 4]
abbrev dktX4_changes_5 : List UInt8 := dkwX4_changes_5 ++ dktX4_changes_6
def dkwX4_changes_4 : List UInt8 := [4, 100, 28, 100, 79, 167, 0, 17, 42, 180, 0, 66, 5, 27, 104, 4, 96, 28, 21, 7, 100, 79, 42, 27]
abbrev dktX4_changes_4 : List UInt8 := dkwX4_changes_4 ++ dktX4_changes_5
def dkwX4_changes_3 : List UInt8 := [54, 7, 42, 180, 0, 81, 28, 29, 79, 28, 21, 7, 162, 0, 20, 42, 180, 0, 66, 5, 27, 104, 21, 7]
abbrev dktX4_changes_3 : List UInt8 := dkwX4_changes_3 ++ dktX4_changes_4
def dkwX4_changes_2 : List UInt8 := [16, 252, 172, 42, 180, 0, 184, 54, 5, 42, 27, 182, 0, 196, 54, 6, 42, 180, 0, 66, 5, 27, 104, 46]
abbrev dktX4_changes_2 : List UInt8 := dkwX4_changes_2 ++ dktX4_changes_3
def dkwX4_changes_1 : List UInt8 := [182, 0, 255, 154, 0, 6, 16, 254, 172, 42, 27, 28, 182, 0, 190, 54, 4, 21, 4, 29, 160, 0, 6]
abbrev dktX4_changes_1 : List UInt8 := dkwX4_changes_1 ++ dktX4_changes_2
def dkwX4_changes_0 : List UInt8 := [42, 3, 181, 0, 1, 27, 184, 0, 237, 153, 0, 10, 29, 184, 0, 156, 154, 0, 5, 2, 172, 42, 27, 28]
abbrev dktX4_changes_0 : List UInt8 := dkwX4_changes_0 ++ dktX4_changes_1
theorem dksX4_changes_0 : cX4_changes.data.toList.drop 0 = dktX4_changes_0 := by decide +kernel
theorem dksX4_changes_1 : cX4_changes.data.toList.drop 24 = dktX4_changes_1 := dk_seg dksX4_changes_0 24 rfl rfl
theorem dksX4_changes_2 : cX4_changes.data.toList.drop 47 = dktX4_changes_2 := dk_seg dksX4_changes_1 23 rfl rfl
theorem dksX4_changes_3 : cX4_changes.data.toList.drop 71 = dktX4_changes_3 := dk_seg dksX4_changes_2 24 rfl rfl
theorem dksX4_changes_4 : cX4_changes.data.toList.drop 95 = dktX4_changes_4 := dk_seg dksX4_changes_3 24 rfl rfl
theorem dksX4_changes_5 : cX4_changes.data.toList.drop 119 = dktX4_changes_5 := dk_seg dksX4_changes_4 24 rfl rfl
theorem dksX4_changes_6 : cX4_changes.data.toList.drop 141 = dktX4_changes_6 := dk_seg dksX4_changes_5 22 rfl rfl
theorem dX4_changes_0 : decode cX4_changes 0 = .ok (.aload_n 0, 1) := dk_42 (dk_at dksX4_changes_0 0 rfl rfl)
theorem dX4_changes_1 : decode cX4_changes 1 = .ok (.iconst 0, 1) := dk_3 (dk_at dksX4_changes_0 1 rfl rfl)
theorem dX4_changes_2 : decode cX4_changes 2 = .ok (.putfield 1, 3) := dk_181 0 1 (dk_at dksX4_changes_0 2 rfl rfl)
theorem dX4_changes_5 : decode cX4_changes 5 = .ok (.iload_n 1, 1) := dk_27 (dk_at dksX4_changes_0 5 rfl rfl)
theorem dX4_changes_6 : decode cX4_changes 6 = .ok (.invokestatic 237, 3) := dk_184 0 237 (dk_at dksX4_changes_0 6 rfl rfl)
theorem dX4_changes_9 : decode cX4_changes 9 = .ok (.ifCond .eq 10, 3) := dk_153 0 10 (dk_at dksX4_changes_0 9 rfl rfl)
theorem dX4_changes_12 : decode cX4_changes 12 = .ok (.iload_n 3, 1) := dk_29 (dk_at dksX4_changes_0 12 rfl rfl)
theorem dX4_changes_13 : decode cX4_changes 13 = .ok (.invokestatic 156, 3) := dk_184 0 156 (dk_at dksX4_changes_0 13 rfl rfl)
theorem dX4_changes_16 : decode cX4_changes 16 = .ok (.ifCond .ne 5, 3) := dk_154 0 5 (dk_at dksX4_changes_0 16 rfl rfl)
theorem dX4_changes_19 : decode cX4_changes 19 = .ok (.iconst (-1), 1) := dk_2 (dk_at dksX4_changes_0 19 rfl rfl)
theorem dX4_changes_20 : decode cX4_changes 20 = .ok (.ireturn, 1) := dk_172 (dk_at dksX4_changes_0 20 rfl rfl)
theorem dX4_changes_21 : decode cX4_changes 21 = .ok (.aload_n 0, 1) := dk_42 (dk_at dksX4_changes_0 21 rfl rfl)
theorem dX4_changes_22 : decode cX4_changes 22 = .ok (.iload_n 1, 1) := dk_27 (dk_at dksX4_changes_0 22 rfl rfl)
theorem dX4_changes_23 : decode cX4_changes 23 = .ok (.iload_n 2, 1) := dk_28 (dk_at dksX4_changes_0 23 rfl rfl)
theorem dX4_changes_24 : decode cX4_changes 24 = .ok (.invokevirtual 255, 3) := dk_182 0 255 (dk_at dksX4_changes_1 0 rfl rfl)
theorem dX4_changes_27 : decode cX4_changes 27 = .ok (.ifCond .ne 6, 3) := dk_154 0 6 (dk_at dksX4_changes_1 3 rfl rfl)
theorem dX4_changes_30 : decode cX4_changes 30 = .ok (.bipush (-2), 2) := dk_16 254 (dk_at dksX4_changes_1 6 rfl rfl)
theorem dX4_changes_32 : decode cX4_changes 32 = .ok (.ireturn, 1) := dk_172 (dk_at dksX4_changes_1 8 rfl rfl)
theorem dX4_changes_33 : decode cX4_changes 33 = .ok (.aload_n 0, 1) := dk_42 (dk_at dksX4_changes_1 9 rfl rfl)
theorem dX4_changes_34 : decode cX4_changes 34 = .ok (.iload_n 1, 1) := dk_27 (dk_at dksX4_changes_1 10 rfl rfl)
theorem dX4_changes_35 : decode cX4_changes 35 = .ok (.iload_n 2, 1) := dk_28 (dk_at dksX4_changes_1 11 rfl rfl)
theorem dX4_changes_36 : decode cX4_changes 36 = .ok (.invokevirtual 190, 3) := dk_182 0 190 (dk_at dksX4_changes_1 12 rfl rfl)
theorem dX4_changes_39 : decode cX4_changes 39 = .ok (.istore 4, 2) := dk_54 4 (dk_at dksX4_changes_1 15 rfl rfl)
theorem dX4_changes_41 : decode cX4_changes 41 = .ok (.iload 4, 2) := dk_21 4 (dk_at dksX4_changes_1 17 rfl rfl)
theorem dX4_changes_43 : decode cX4_changes 43 = .ok (.iload_n 3, 1) := dk_29 (dk_at dksX4_changes_1 19 rfl rfl)
theorem dX4_changes_44 : decode cX4_changes 44 = .ok (.if_icmp .ne 6, 3) := dk_160 0 6 (dk_at dksX4_changes_1 20 rfl rfl)
theorem dX4_changes_47 : decode cX4_changes 47 = .ok (.bipush (-4), 2) := dk_16 252 (dk_at dksX4_changes_2 0 rfl rfl)
theorem dX4_changes_49 : decode cX4_changes 49 = .ok (.ireturn, 1) := dk_172 (dk_at dksX4_changes_2 2 rfl rfl)
theorem dX4_changes_50 : decode cX4_changes 50 = .ok (.aload_n 0, 1) := dk_42 (dk_at dksX4_changes_2 3 rfl rfl)
theorem dX4_changes_51 : decode cX4_changes 51 = .ok (.getfield 184, 3) := dk_180 0 184 (dk_at dksX4_changes_2 4 rfl rfl)
theorem dX4_changes_54 : decode cX4_changes 54 = .ok (.istore 5, 2) := dk_54 5 (dk_at dksX4_changes_2 7 rfl rfl)
theorem dX4_changes_56 : decode cX4_changes 56 = .ok (.aload_n 0, 1) := dk_42 (dk_at dksX4_changes_2 9 rfl rfl)
theorem dX4_changes_57 : decode cX4_changes 57 = .ok (.iload_n 1, 1) := dk_27 (dk_at dksX4_changes_2 10 rfl rfl)
theorem dX4_changes_58 : decode cX4_changes 58 = .ok (.invokevirtual 196, 3) := dk_182 0 196 (dk_at dksX4_changes_2 11 rfl rfl)
theorem dX4_changes_61 : decode cX4_changes 61 = .ok (.istore 6, 2) := dk_54 6 (dk_at dksX4_changes_2 14 rfl rfl)
theorem dX4_changes_63 : decode cX4_changes 63 = .ok (.aload_n 0, 1) := dk_42 (dk_at dksX4_changes_2 16 rfl rfl)
theorem dX4_changes_64 : decode cX4_changes 64 = .ok (.getfield 66, 3) := dk_180 0 66 (dk_at dksX4_changes_2 17 rfl rfl)
theorem dX4_changes_67 : decode cX4_changes 67 = .ok (.iconst 2, 1) := dk_5 (dk_at dksX4_changes_2 20 rfl rfl)
theorem dX4_changes_68 : decode cX4_changes 68 = .ok (.iload_n 1, 1) := dk_27 (dk_at dksX4_changes_2 21 rfl rfl)
theorem dX4_changes_69 : decode cX4_changes 69 = .ok (.imul, 1) := dk_104 (dk_at dksX4_changes_2 22 rfl rfl)
theorem dX4_changes_70 : decode cX4_changes 70 = .ok (.iaload, 1) := dk_46 (dk_at dksX4_changes_2 23 rfl rfl)
theorem dX4_changes_71 : decode cX4_changes 71 = .ok (.istore 7, 2) := dk_54 7 (dk_at dksX4_changes_3 0 rfl rfl)
theorem dX4_changes_73 : decode cX4_changes 73 = .ok (.aload_n 0, 1) := dk_42 (dk_at dksX4_changes_3 2 rfl rfl)
theorem dX4_changes_74 : decode cX4_changes 74 = .ok (.getfield 81, 3) := dk_180 0 81 (dk_at dksX4_changes_3 3 rfl rfl)
theorem dX4_changes_77 : decode cX4_changes 77 = .ok (.iload_n 2, 1) := dk_28 (dk_at dksX4_changes_3 6 rfl rfl)
theorem dX4_changes_78 : decode cX4_changes 78 = .ok (.iload_n 3, 1) := dk_29 (dk_at dksX4_changes_3 7 rfl rfl)
theorem dX4_changes_79 : decode cX4_changes 79 = .ok (.iastore, 1) := dk_79 (dk_at dksX4_changes_3 8 rfl rfl)
theorem dX4_changes_80 : decode cX4_changes 80 = .ok (.iload_n 2, 1) := dk_28 (dk_at dksX4_changes_3 9 rfl rfl)
theorem dX4_changes_81 : decode cX4_changes 81 = .ok (.iload 7, 2) := dk_21 7 (dk_at dksX4_changes_3 10 rfl rfl)
theorem dX4_changes_83 : decode cX4_changes 83 = .ok (.if_icmp .ge 20, 3) := dk_162 0 20 (dk_at dksX4_changes_3 12 rfl rfl)
theorem dX4_changes_86 : decode cX4_changes 86 = .ok (.aload_n 0, 1) := dk_42 (dk_at dksX4_changes_3 15 rfl rfl)
theorem dX4_changes_87 : decode cX4_changes 87 = .ok (.getfield 66, 3) := dk_180 0 66 (dk_at dksX4_changes_3 16 rfl rfl)
theorem dX4_changes_90 : decode cX4_changes 90 = .ok (.iconst 2, 1) := dk_5 (dk_at dksX4_changes_3 19 rfl rfl)
theorem dX4_changes_91 : decode cX4_changes 91 = .ok (.iload_n 1, 1) := dk_27 (dk_at dksX4_changes_3 20 rfl rfl)
theorem dX4_changes_92 : decode cX4_changes 92 = .ok (.imul, 1) := dk_104 (dk_at dksX4_changes_3 21 rfl rfl)
theorem dX4_changes_93 : decode cX4_changes 93 = .ok (.iload 7, 2) := dk_21 7 (dk_at dksX4_changes_3 22 rfl rfl)
theorem dX4_changes_95 : decode cX4_changes 95 = .ok (.iconst 1, 1) := dk_4 (dk_at dksX4_changes_4 0 rfl rfl)
theorem dX4_changes_96 : decode cX4_changes 96 = .ok (.isub, 1) := dk_100 (dk_at dksX4_changes_4 1 rfl rfl)
theorem dX4_changes_97 : decode cX4_changes 97 = .ok (.iload_n 2, 1) := dk_28 (dk_at dksX4_changes_4 2 rfl rfl)
theorem dX4_changes_98 : decode cX4_changes 98 = .ok (.isub, 1) := dk_100 (dk_at dksX4_changes_4 3 rfl rfl)
theorem dX4_changes_99 : decode cX4_changes 99 = .ok (.iastore, 1) := dk_79 (dk_at dksX4_changes_4 4 rfl rfl)
theorem dX4_changes_100 : decode cX4_changes 100 = .ok (.goto 17, 3) := dk_167 0 17 (dk_at dksX4_changes_4 5 rfl rfl)
theorem dX4_changes_103 : decode cX4_changes 103 = .ok (.aload_n 0, 1) := dk_42 (dk_at dksX4_changes_4 8 rfl rfl)
theorem dX4_changes_104 : decode cX4_changes 104 = .ok (.getfield 66, 3) := dk_180 0 66 (dk_at dksX4_changes_4 9 rfl rfl)
theorem dX4_changes_107 : decode cX4_changes 107 = .ok (.iconst 2, 1) := dk_5 (dk_at dksX4_changes_4 12 rfl rfl)
theorem dX4_changes_108 : decode cX4_changes 108 = .ok (.iload_n 1, 1) := dk_27 (dk_at dksX4_changes_4 13 rfl rfl)
theorem dX4_changes_109 : decode cX4_changes 109 = .ok (.imul, 1) := dk_104 (dk_at dksX4_changes_4 14 rfl rfl)
theorem dX4_changes_110 : decode cX4_changes 110 = .ok (.iconst 1, 1) := dk_4 (dk_at dksX4_changes_4 15 rfl rfl)
theorem dX4_changes_111 : decode cX4_changes 111 = .ok (.iadd, 1) := dk_96 (dk_at dksX4_changes_4 16 rfl rfl)
theorem dX4_changes_112 : decode cX4_changes 112 = .ok (.iload_n 2, 1) := dk_28 (dk_at dksX4_changes_4 17 rfl rfl)
theorem dX4_changes_113 : decode cX4_changes 113 = .ok (.iload 7, 2) := dk_21 7 (dk_at dksX4_changes_4 18 rfl rfl)
theorem dX4_changes_115 : decode cX4_changes 115 = .ok (.isub, 1) := dk_100 (dk_at dksX4_changes_4 20 rfl rfl)
theorem dX4_changes_116 : decode cX4_changes 116 = .ok (.iastore, 1) := dk_79 (dk_at dksX4_changes_4 21 rfl rfl)
theorem dX4_changes_117 : decode cX4_changes 117 = .ok (.aload_n 0, 1) := dk_42 (dk_at dksX4_changes_4 22 rfl rfl)
theorem dX4_changes_118 : decode cX4_changes 118 = .ok (.iload_n 1, 1) := dk_27 (dk_at dksX4_changes_4 23 rfl rfl)
theorem dX4_changes_119 : decode cX4_changes 119 = .ok (.iload_n 2, 1) := dk_28 (dk_at dksX4_changes_5 0 rfl rfl)
theorem dX4_changes_120 : decode cX4_changes 120 = .ok (.iload 7, 2) := dk_21 7 (dk_at dksX4_changes_5 1 rfl rfl)
theorem dX4_changes_122 : decode cX4_changes 122 = .ok (.if_icmp .ge 7, 3) := dk_162 0 7 (dk_at dksX4_changes_5 3 rfl rfl)
theorem dX4_changes_125 : decode cX4_changes 125 = .ok (.iconst 1, 1) := dk_4 (dk_at dksX4_changes_5 6 rfl rfl)
theorem dX4_changes_126 : decode cX4_changes 126 = .ok (.goto 4, 3) := dk_167 0 4 (dk_at dksX4_changes_5 7 rfl rfl)
theorem dX4_changes_129 : decode cX4_changes 129 = .ok (.iconst 0, 1) := dk_3 (dk_at dksX4_changes_5 10 rfl rfl)
theorem dX4_changes_130 : decode cX4_changes 130 = .ok (.iload_n 2, 1) := dk_28 (dk_at dksX4_changes_5 11 rfl rfl)
theorem dX4_changes_131 : decode cX4_changes 131 = .ok (.iload 6, 2) := dk_21 6 (dk_at dksX4_changes_5 12 rfl rfl)
theorem dX4_changes_133 : decode cX4_changes 133 = .ok (.invokevirtual 259, 3) := dk_182 1 3 (dk_at dksX4_changes_5 14 rfl rfl)
theorem dX4_changes_136 : decode cX4_changes 136 = .ok (.aload_n 0, 1) := dk_42 (dk_at dksX4_changes_5 17 rfl rfl)
theorem dX4_changes_137 : decode cX4_changes 137 = .ok (.iload 5, 2) := dk_21 5 (dk_at dksX4_changes_5 18 rfl rfl)
theorem dX4_changes_139 : decode cX4_changes 139 = .ok (.iload 4, 2) := dk_21 4 (dk_at dksX4_changes_5 20 rfl rfl)
theorem dX4_changes_141 : decode cX4_changes 141 = .ok (.invokevirtual 246, 3) := dk_182 0 246 (dk_at dksX4_changes_6 0 rfl rfl)
theorem dX4_changes_144 : decode cX4_changes 144 = .ok (.ireturn, 1) := dk_172 (dk_at dksX4_changes_6 3 rfl rfl)
def dkwX4_isAt_0 : List UInt8 := [28, 133, 9, 42, 27, 182, 0, 187, 4, 100, 133, 184, 0, 21, 172]
abbrev dktX4_isAt_0 : List UInt8 := dkwX4_isAt_0 ++ []
theorem dksX4_isAt_0 : cX4_isAt.data.toList.drop 0 = dktX4_isAt_0 := by decide +kernel
theorem dX4_isAt_0 : decode cX4_isAt 0 = .ok (.iload_n 2, 1) := dk_28 (dk_at dksX4_isAt_0 0 rfl rfl)
theorem dX4_isAt_1 : decode cX4_isAt 1 = .ok (.i2l, 1) := dk_133 (dk_at dksX4_isAt_0 1 rfl rfl)
theorem dX4_isAt_2 : decode cX4_isAt 2 = .ok (.lconst 0, 1) := dk_9 (dk_at dksX4_isAt_0 2 rfl rfl)
theorem dX4_isAt_3 : decode cX4_isAt 3 = .ok (.aload_n 0, 1) := dk_42 (dk_at dksX4_isAt_0 3 rfl rfl)
theorem dX4_isAt_4 : decode cX4_isAt 4 = .ok (.iload_n 1, 1) := dk_27 (dk_at dksX4_isAt_0 4 rfl rfl)
theorem dX4_isAt_5 : decode cX4_isAt 5 = .ok (.invokevirtual 187, 3) := dk_182 0 187 (dk_at dksX4_isAt_0 5 rfl rfl)
theorem dX4_isAt_8 : decode cX4_isAt 8 = .ok (.iconst 1, 1) := dk_4 (dk_at dksX4_isAt_0 8 rfl rfl)
theorem dX4_isAt_9 : decode cX4_isAt 9 = .ok (.isub, 1) := dk_100 (dk_at dksX4_isAt_0 9 rfl rfl)
theorem dX4_isAt_10 : decode cX4_isAt 10 = .ok (.i2l, 1) := dk_133 (dk_at dksX4_isAt_0 10 rfl rfl)
theorem dX4_isAt_11 : decode cX4_isAt 11 = .ok (.invokestatic 21, 3) := dk_184 0 21 (dk_at dksX4_isAt_0 11 rfl rfl)
theorem dX4_isAt_14 : decode cX4_isAt 14 = .ok (.ireturn, 1) := dk_172 (dk_at dksX4_isAt_0 14 rfl rfl)
def dkwX4_makesAgain_3 : List UInt8 := [182, 0, 193, 132, 6, 1, 167, 255, 233, 177]
abbrev dktX4_makesAgain_3 : List UInt8 := dkwX4_makesAgain_3 ++ []
def dkwX4_makesAgain_2 : List UInt8 := [167, 0, 32, 29, 54, 6, 21, 6, 21, 4, 162, 0, 22, 42, 21, 5, 42, 180, 0, 81, 21, 6, 46]
abbrev dktX4_makesAgain_2 : List UInt8 := dkwX4_makesAgain_2 ++ dktX4_makesAgain_3
def dkwX4_makesAgain_1 : List UInt8 := [21, 6, 155, 0, 22, 42, 21, 5, 42, 180, 0, 81, 21, 6, 46, 182, 0, 193, 132, 6, 255, 167, 255, 235]
abbrev dktX4_makesAgain_1 : List UInt8 := dkwX4_makesAgain_1 ++ dktX4_makesAgain_2
def dkwX4_makesAgain_0 : List UInt8 := [28, 153, 0, 9, 5, 27, 104, 167, 0, 8, 5, 27, 104, 4, 96, 54, 5, 28, 153, 0, 33, 29, 54, 6]
abbrev dktX4_makesAgain_0 : List UInt8 := dkwX4_makesAgain_0 ++ dktX4_makesAgain_1
theorem dksX4_makesAgain_0 : cX4_makesAgain.data.toList.drop 0 = dktX4_makesAgain_0 := by decide +kernel
theorem dksX4_makesAgain_1 : cX4_makesAgain.data.toList.drop 24 = dktX4_makesAgain_1 := dk_seg dksX4_makesAgain_0 24 rfl rfl
theorem dksX4_makesAgain_2 : cX4_makesAgain.data.toList.drop 48 = dktX4_makesAgain_2 := dk_seg dksX4_makesAgain_1 24 rfl rfl
theorem dksX4_makesAgain_3 : cX4_makesAgain.data.toList.drop 71 = dktX4_makesAgain_3 := dk_seg dksX4_makesAgain_2 23 rfl rfl
theorem dX4_makesAgain_0 : decode cX4_makesAgain 0 = .ok (.iload_n 2, 1) := dk_28 (dk_at dksX4_makesAgain_0 0 rfl rfl)
theorem dX4_makesAgain_1 : decode cX4_makesAgain 1 = .ok (.ifCond .eq 9, 3) := dk_153 0 9 (dk_at dksX4_makesAgain_0 1 rfl rfl)
theorem dX4_makesAgain_4 : decode cX4_makesAgain 4 = .ok (.iconst 2, 1) := dk_5 (dk_at dksX4_makesAgain_0 4 rfl rfl)
theorem dX4_makesAgain_5 : decode cX4_makesAgain 5 = .ok (.iload_n 1, 1) := dk_27 (dk_at dksX4_makesAgain_0 5 rfl rfl)
theorem dX4_makesAgain_6 : decode cX4_makesAgain 6 = .ok (.imul, 1) := dk_104 (dk_at dksX4_makesAgain_0 6 rfl rfl)
theorem dX4_makesAgain_7 : decode cX4_makesAgain 7 = .ok (.goto 8, 3) := dk_167 0 8 (dk_at dksX4_makesAgain_0 7 rfl rfl)
theorem dX4_makesAgain_10 : decode cX4_makesAgain 10 = .ok (.iconst 2, 1) := dk_5 (dk_at dksX4_makesAgain_0 10 rfl rfl)
theorem dX4_makesAgain_11 : decode cX4_makesAgain 11 = .ok (.iload_n 1, 1) := dk_27 (dk_at dksX4_makesAgain_0 11 rfl rfl)
theorem dX4_makesAgain_12 : decode cX4_makesAgain 12 = .ok (.imul, 1) := dk_104 (dk_at dksX4_makesAgain_0 12 rfl rfl)
theorem dX4_makesAgain_13 : decode cX4_makesAgain 13 = .ok (.iconst 1, 1) := dk_4 (dk_at dksX4_makesAgain_0 13 rfl rfl)
theorem dX4_makesAgain_14 : decode cX4_makesAgain 14 = .ok (.iadd, 1) := dk_96 (dk_at dksX4_makesAgain_0 14 rfl rfl)
theorem dX4_makesAgain_15 : decode cX4_makesAgain 15 = .ok (.istore 5, 2) := dk_54 5 (dk_at dksX4_makesAgain_0 15 rfl rfl)
theorem dX4_makesAgain_17 : decode cX4_makesAgain 17 = .ok (.iload_n 2, 1) := dk_28 (dk_at dksX4_makesAgain_0 17 rfl rfl)
theorem dX4_makesAgain_18 : decode cX4_makesAgain 18 = .ok (.ifCond .eq 33, 3) := dk_153 0 33 (dk_at dksX4_makesAgain_0 18 rfl rfl)
theorem dX4_makesAgain_21 : decode cX4_makesAgain 21 = .ok (.iload_n 3, 1) := dk_29 (dk_at dksX4_makesAgain_0 21 rfl rfl)
theorem dX4_makesAgain_22 : decode cX4_makesAgain 22 = .ok (.istore 6, 2) := dk_54 6 (dk_at dksX4_makesAgain_0 22 rfl rfl)
theorem dX4_makesAgain_24 : decode cX4_makesAgain 24 = .ok (.iload 6, 2) := dk_21 6 (dk_at dksX4_makesAgain_1 0 rfl rfl)
theorem dX4_makesAgain_26 : decode cX4_makesAgain 26 = .ok (.ifCond .lt 22, 3) := dk_155 0 22 (dk_at dksX4_makesAgain_1 2 rfl rfl)
theorem dX4_makesAgain_29 : decode cX4_makesAgain 29 = .ok (.aload_n 0, 1) := dk_42 (dk_at dksX4_makesAgain_1 5 rfl rfl)
theorem dX4_makesAgain_30 : decode cX4_makesAgain 30 = .ok (.iload 5, 2) := dk_21 5 (dk_at dksX4_makesAgain_1 6 rfl rfl)
theorem dX4_makesAgain_32 : decode cX4_makesAgain 32 = .ok (.aload_n 0, 1) := dk_42 (dk_at dksX4_makesAgain_1 8 rfl rfl)
theorem dX4_makesAgain_33 : decode cX4_makesAgain 33 = .ok (.getfield 81, 3) := dk_180 0 81 (dk_at dksX4_makesAgain_1 9 rfl rfl)
theorem dX4_makesAgain_36 : decode cX4_makesAgain 36 = .ok (.iload 6, 2) := dk_21 6 (dk_at dksX4_makesAgain_1 12 rfl rfl)
theorem dX4_makesAgain_38 : decode cX4_makesAgain 38 = .ok (.iaload, 1) := dk_46 (dk_at dksX4_makesAgain_1 14 rfl rfl)
theorem dX4_makesAgain_39 : decode cX4_makesAgain 39 = .ok (.invokevirtual 193, 3) := dk_182 0 193 (dk_at dksX4_makesAgain_1 15 rfl rfl)
theorem dX4_makesAgain_42 : decode cX4_makesAgain 42 = .ok (.iinc 6 (-1), 3) := dk_132 6 255 (dk_at dksX4_makesAgain_1 18 rfl rfl)
theorem dX4_makesAgain_45 : decode cX4_makesAgain 45 = .ok (.goto (-21), 3) := dk_167 255 235 (dk_at dksX4_makesAgain_1 21 rfl rfl)
theorem dX4_makesAgain_48 : decode cX4_makesAgain 48 = .ok (.goto 32, 3) := dk_167 0 32 (dk_at dksX4_makesAgain_2 0 rfl rfl)
theorem dX4_makesAgain_51 : decode cX4_makesAgain 51 = .ok (.iload_n 3, 1) := dk_29 (dk_at dksX4_makesAgain_2 3 rfl rfl)
theorem dX4_makesAgain_52 : decode cX4_makesAgain 52 = .ok (.istore 6, 2) := dk_54 6 (dk_at dksX4_makesAgain_2 4 rfl rfl)
theorem dX4_makesAgain_54 : decode cX4_makesAgain 54 = .ok (.iload 6, 2) := dk_21 6 (dk_at dksX4_makesAgain_2 6 rfl rfl)
theorem dX4_makesAgain_56 : decode cX4_makesAgain 56 = .ok (.iload 4, 2) := dk_21 4 (dk_at dksX4_makesAgain_2 8 rfl rfl)
theorem dX4_makesAgain_58 : decode cX4_makesAgain 58 = .ok (.if_icmp .ge 22, 3) := dk_162 0 22 (dk_at dksX4_makesAgain_2 10 rfl rfl)
theorem dX4_makesAgain_61 : decode cX4_makesAgain 61 = .ok (.aload_n 0, 1) := dk_42 (dk_at dksX4_makesAgain_2 13 rfl rfl)
theorem dX4_makesAgain_62 : decode cX4_makesAgain 62 = .ok (.iload 5, 2) := dk_21 5 (dk_at dksX4_makesAgain_2 14 rfl rfl)
theorem dX4_makesAgain_64 : decode cX4_makesAgain 64 = .ok (.aload_n 0, 1) := dk_42 (dk_at dksX4_makesAgain_2 16 rfl rfl)
theorem dX4_makesAgain_65 : decode cX4_makesAgain 65 = .ok (.getfield 81, 3) := dk_180 0 81 (dk_at dksX4_makesAgain_2 17 rfl rfl)
theorem dX4_makesAgain_68 : decode cX4_makesAgain 68 = .ok (.iload 6, 2) := dk_21 6 (dk_at dksX4_makesAgain_2 20 rfl rfl)
theorem dX4_makesAgain_70 : decode cX4_makesAgain 70 = .ok (.iaload, 1) := dk_46 (dk_at dksX4_makesAgain_2 22 rfl rfl)
theorem dX4_makesAgain_71 : decode cX4_makesAgain 71 = .ok (.invokevirtual 193, 3) := dk_182 0 193 (dk_at dksX4_makesAgain_3 0 rfl rfl)
theorem dX4_makesAgain_74 : decode cX4_makesAgain 74 = .ok (.iinc 6 1, 3) := dk_132 6 1 (dk_at dksX4_makesAgain_3 3 rfl rfl)
theorem dX4_makesAgain_77 : decode cX4_makesAgain 77 = .ok (.goto (-23), 3) := dk_167 255 233 (dk_at dksX4_makesAgain_3 6 rfl rfl)
theorem dX4_makesAgain_80 : decode cX4_makesAgain 80 = .ok (.return_, 1) := dk_177 (dk_at dksX4_makesAgain_3 9 rfl rfl)
def dkwX4_slips_7 : List UInt8 := [4, 96, 182, 1, 3, 42, 21, 5, 21, 4, 4, 96, 182, 0, 246, 172]
abbrev dktX4_slips_7 : List UInt8 := dkwX4_slips_7 ++ []
def dkwX4_slips_6 : List UInt8 := [104, 4, 96, 28, 21, 6, 100, 79, 42, 27, 28, 21, 6, 162, 0, 7, 4, 167, 0, 4, 3, 28, 21, 4]
abbrev dktX4_slips_6 : List UInt8 := dkwX4_slips_6 ++ dktX4_slips_7
def dkwX4_slips_5 : List UInt8 := [162, 0, 18, 42, 180, 0, 66, 5, 27, 104, 21, 6, 28, 100, 79, 167, 0, 17, 42, 180, 0, 66, 5, 27]
abbrev dktX4_slips_5 : List UInt8 := dkwX4_slips_5 ++ dktX4_slips_6
def dkwX4_slips_4 : List UInt8 := [167, 255, 231, 42, 180, 0, 81, 28, 29, 79, 42, 180, 0, 66, 5, 27, 104, 46, 54, 6, 28, 21, 6]
abbrev dktX4_slips_4 : List UInt8 := dkwX4_slips_4 ++ dktX4_slips_5
def dkwX4_slips_3 : List UInt8 := [28, 164, 0, 25, 42, 180, 0, 81, 21, 6, 42, 180, 0, 81, 21, 6, 4, 100, 46, 79, 132, 6, 255]
abbrev dktX4_slips_3 : List UInt8 := dkwX4_slips_3 ++ dktX4_slips_4
def dkwX4_slips_2 : List UInt8 := [160, 0, 6, 16, 253, 172, 42, 180, 0, 184, 54, 5, 42, 27, 182, 0, 196, 87, 21, 4, 54, 6, 21, 6]
abbrev dktX4_slips_2 : List UInt8 := dkwX4_slips_2 ++ dktX4_slips_3
def dkwX4_slips_1 : List UInt8 := [182, 0, 187, 54, 4, 28, 133, 9, 21, 4, 133, 184, 0, 21, 154, 0, 6, 16, 254, 172, 21, 4, 16, 64]
abbrev dktX4_slips_1 : List UInt8 := dkwX4_slips_1 ++ dktX4_slips_2
def dkwX4_slips_0 : List UInt8 := [42, 3, 181, 0, 1, 27, 184, 0, 237, 153, 0, 10, 29, 184, 0, 156, 154, 0, 5, 2, 172, 42, 27]
abbrev dktX4_slips_0 : List UInt8 := dkwX4_slips_0 ++ dktX4_slips_1
theorem dksX4_slips_0 : cX4_slips.data.toList.drop 0 = dktX4_slips_0 := by decide +kernel
theorem dksX4_slips_1 : cX4_slips.data.toList.drop 23 = dktX4_slips_1 := dk_seg dksX4_slips_0 23 rfl rfl
theorem dksX4_slips_2 : cX4_slips.data.toList.drop 47 = dktX4_slips_2 := dk_seg dksX4_slips_1 24 rfl rfl
theorem dksX4_slips_3 : cX4_slips.data.toList.drop 71 = dktX4_slips_3 := dk_seg dksX4_slips_2 24 rfl rfl
theorem dksX4_slips_4 : cX4_slips.data.toList.drop 94 = dktX4_slips_4 := dk_seg dksX4_slips_3 23 rfl rfl
theorem dksX4_slips_5 : cX4_slips.data.toList.drop 117 = dktX4_slips_5 := dk_seg dksX4_slips_4 23 rfl rfl
theorem dksX4_slips_6 : cX4_slips.data.toList.drop 141 = dktX4_slips_6 := dk_seg dksX4_slips_5 24 rfl rfl
theorem dksX4_slips_7 : cX4_slips.data.toList.drop 165 = dktX4_slips_7 := dk_seg dksX4_slips_6 24 rfl rfl
theorem dX4_slips_0 : decode cX4_slips 0 = .ok (.aload_n 0, 1) := dk_42 (dk_at dksX4_slips_0 0 rfl rfl)
theorem dX4_slips_1 : decode cX4_slips 1 = .ok (.iconst 0, 1) := dk_3 (dk_at dksX4_slips_0 1 rfl rfl)
theorem dX4_slips_2 : decode cX4_slips 2 = .ok (.putfield 1, 3) := dk_181 0 1 (dk_at dksX4_slips_0 2 rfl rfl)
theorem dX4_slips_5 : decode cX4_slips 5 = .ok (.iload_n 1, 1) := dk_27 (dk_at dksX4_slips_0 5 rfl rfl)
theorem dX4_slips_6 : decode cX4_slips 6 = .ok (.invokestatic 237, 3) := dk_184 0 237 (dk_at dksX4_slips_0 6 rfl rfl)
theorem dX4_slips_9 : decode cX4_slips 9 = .ok (.ifCond .eq 10, 3) := dk_153 0 10 (dk_at dksX4_slips_0 9 rfl rfl)
theorem dX4_slips_12 : decode cX4_slips 12 = .ok (.iload_n 3, 1) := dk_29 (dk_at dksX4_slips_0 12 rfl rfl)
theorem dX4_slips_13 : decode cX4_slips 13 = .ok (.invokestatic 156, 3) := dk_184 0 156 (dk_at dksX4_slips_0 13 rfl rfl)
theorem dX4_slips_16 : decode cX4_slips 16 = .ok (.ifCond .ne 5, 3) := dk_154 0 5 (dk_at dksX4_slips_0 16 rfl rfl)
theorem dX4_slips_19 : decode cX4_slips 19 = .ok (.iconst (-1), 1) := dk_2 (dk_at dksX4_slips_0 19 rfl rfl)
theorem dX4_slips_20 : decode cX4_slips 20 = .ok (.ireturn, 1) := dk_172 (dk_at dksX4_slips_0 20 rfl rfl)
theorem dX4_slips_21 : decode cX4_slips 21 = .ok (.aload_n 0, 1) := dk_42 (dk_at dksX4_slips_0 21 rfl rfl)
theorem dX4_slips_22 : decode cX4_slips 22 = .ok (.iload_n 1, 1) := dk_27 (dk_at dksX4_slips_0 22 rfl rfl)
theorem dX4_slips_23 : decode cX4_slips 23 = .ok (.invokevirtual 187, 3) := dk_182 0 187 (dk_at dksX4_slips_1 0 rfl rfl)
theorem dX4_slips_26 : decode cX4_slips 26 = .ok (.istore 4, 2) := dk_54 4 (dk_at dksX4_slips_1 3 rfl rfl)
theorem dX4_slips_28 : decode cX4_slips 28 = .ok (.iload_n 2, 1) := dk_28 (dk_at dksX4_slips_1 5 rfl rfl)
theorem dX4_slips_29 : decode cX4_slips 29 = .ok (.i2l, 1) := dk_133 (dk_at dksX4_slips_1 6 rfl rfl)
theorem dX4_slips_30 : decode cX4_slips 30 = .ok (.lconst 0, 1) := dk_9 (dk_at dksX4_slips_1 7 rfl rfl)
theorem dX4_slips_31 : decode cX4_slips 31 = .ok (.iload 4, 2) := dk_21 4 (dk_at dksX4_slips_1 8 rfl rfl)
theorem dX4_slips_33 : decode cX4_slips 33 = .ok (.i2l, 1) := dk_133 (dk_at dksX4_slips_1 10 rfl rfl)
theorem dX4_slips_34 : decode cX4_slips 34 = .ok (.invokestatic 21, 3) := dk_184 0 21 (dk_at dksX4_slips_1 11 rfl rfl)
theorem dX4_slips_37 : decode cX4_slips 37 = .ok (.ifCond .ne 6, 3) := dk_154 0 6 (dk_at dksX4_slips_1 14 rfl rfl)
theorem dX4_slips_40 : decode cX4_slips 40 = .ok (.bipush (-2), 2) := dk_16 254 (dk_at dksX4_slips_1 17 rfl rfl)
theorem dX4_slips_42 : decode cX4_slips 42 = .ok (.ireturn, 1) := dk_172 (dk_at dksX4_slips_1 19 rfl rfl)
theorem dX4_slips_43 : decode cX4_slips 43 = .ok (.iload 4, 2) := dk_21 4 (dk_at dksX4_slips_1 20 rfl rfl)
theorem dX4_slips_45 : decode cX4_slips 45 = .ok (.bipush 64, 2) := dk_16 64 (dk_at dksX4_slips_1 22 rfl rfl)
theorem dX4_slips_47 : decode cX4_slips 47 = .ok (.if_icmp .ne 6, 3) := dk_160 0 6 (dk_at dksX4_slips_2 0 rfl rfl)
theorem dX4_slips_50 : decode cX4_slips 50 = .ok (.bipush (-3), 2) := dk_16 253 (dk_at dksX4_slips_2 3 rfl rfl)
theorem dX4_slips_52 : decode cX4_slips 52 = .ok (.ireturn, 1) := dk_172 (dk_at dksX4_slips_2 5 rfl rfl)
theorem dX4_slips_53 : decode cX4_slips 53 = .ok (.aload_n 0, 1) := dk_42 (dk_at dksX4_slips_2 6 rfl rfl)
theorem dX4_slips_54 : decode cX4_slips 54 = .ok (.getfield 184, 3) := dk_180 0 184 (dk_at dksX4_slips_2 7 rfl rfl)
theorem dX4_slips_57 : decode cX4_slips 57 = .ok (.istore 5, 2) := dk_54 5 (dk_at dksX4_slips_2 10 rfl rfl)
theorem dX4_slips_59 : decode cX4_slips 59 = .ok (.aload_n 0, 1) := dk_42 (dk_at dksX4_slips_2 12 rfl rfl)
theorem dX4_slips_60 : decode cX4_slips 60 = .ok (.iload_n 1, 1) := dk_27 (dk_at dksX4_slips_2 13 rfl rfl)
theorem dX4_slips_61 : decode cX4_slips 61 = .ok (.invokevirtual 196, 3) := dk_182 0 196 (dk_at dksX4_slips_2 14 rfl rfl)
theorem dX4_slips_64 : decode cX4_slips 64 = .ok (.pop, 1) := dk_87 (dk_at dksX4_slips_2 17 rfl rfl)
theorem dX4_slips_65 : decode cX4_slips 65 = .ok (.iload 4, 2) := dk_21 4 (dk_at dksX4_slips_2 18 rfl rfl)
theorem dX4_slips_67 : decode cX4_slips 67 = .ok (.istore 6, 2) := dk_54 6 (dk_at dksX4_slips_2 20 rfl rfl)
theorem dX4_slips_69 : decode cX4_slips 69 = .ok (.iload 6, 2) := dk_21 6 (dk_at dksX4_slips_2 22 rfl rfl)
theorem dX4_slips_71 : decode cX4_slips 71 = .ok (.iload_n 2, 1) := dk_28 (dk_at dksX4_slips_3 0 rfl rfl)
theorem dX4_slips_72 : decode cX4_slips 72 = .ok (.if_icmp .le 25, 3) := dk_164 0 25 (dk_at dksX4_slips_3 1 rfl rfl)
theorem dX4_slips_75 : decode cX4_slips 75 = .ok (.aload_n 0, 1) := dk_42 (dk_at dksX4_slips_3 4 rfl rfl)
theorem dX4_slips_76 : decode cX4_slips 76 = .ok (.getfield 81, 3) := dk_180 0 81 (dk_at dksX4_slips_3 5 rfl rfl)
theorem dX4_slips_79 : decode cX4_slips 79 = .ok (.iload 6, 2) := dk_21 6 (dk_at dksX4_slips_3 8 rfl rfl)
theorem dX4_slips_81 : decode cX4_slips 81 = .ok (.aload_n 0, 1) := dk_42 (dk_at dksX4_slips_3 10 rfl rfl)
theorem dX4_slips_82 : decode cX4_slips 82 = .ok (.getfield 81, 3) := dk_180 0 81 (dk_at dksX4_slips_3 11 rfl rfl)
theorem dX4_slips_85 : decode cX4_slips 85 = .ok (.iload 6, 2) := dk_21 6 (dk_at dksX4_slips_3 14 rfl rfl)
theorem dX4_slips_87 : decode cX4_slips 87 = .ok (.iconst 1, 1) := dk_4 (dk_at dksX4_slips_3 16 rfl rfl)
theorem dX4_slips_88 : decode cX4_slips 88 = .ok (.isub, 1) := dk_100 (dk_at dksX4_slips_3 17 rfl rfl)
theorem dX4_slips_89 : decode cX4_slips 89 = .ok (.iaload, 1) := dk_46 (dk_at dksX4_slips_3 18 rfl rfl)
theorem dX4_slips_90 : decode cX4_slips 90 = .ok (.iastore, 1) := dk_79 (dk_at dksX4_slips_3 19 rfl rfl)
theorem dX4_slips_91 : decode cX4_slips 91 = .ok (.iinc 6 (-1), 3) := dk_132 6 255 (dk_at dksX4_slips_3 20 rfl rfl)
theorem dX4_slips_94 : decode cX4_slips 94 = .ok (.goto (-25), 3) := dk_167 255 231 (dk_at dksX4_slips_4 0 rfl rfl)
theorem dX4_slips_97 : decode cX4_slips 97 = .ok (.aload_n 0, 1) := dk_42 (dk_at dksX4_slips_4 3 rfl rfl)
theorem dX4_slips_98 : decode cX4_slips 98 = .ok (.getfield 81, 3) := dk_180 0 81 (dk_at dksX4_slips_4 4 rfl rfl)
theorem dX4_slips_101 : decode cX4_slips 101 = .ok (.iload_n 2, 1) := dk_28 (dk_at dksX4_slips_4 7 rfl rfl)
theorem dX4_slips_102 : decode cX4_slips 102 = .ok (.iload_n 3, 1) := dk_29 (dk_at dksX4_slips_4 8 rfl rfl)
theorem dX4_slips_103 : decode cX4_slips 103 = .ok (.iastore, 1) := dk_79 (dk_at dksX4_slips_4 9 rfl rfl)
theorem dX4_slips_104 : decode cX4_slips 104 = .ok (.aload_n 0, 1) := dk_42 (dk_at dksX4_slips_4 10 rfl rfl)
theorem dX4_slips_105 : decode cX4_slips 105 = .ok (.getfield 66, 3) := dk_180 0 66 (dk_at dksX4_slips_4 11 rfl rfl)
theorem dX4_slips_108 : decode cX4_slips 108 = .ok (.iconst 2, 1) := dk_5 (dk_at dksX4_slips_4 14 rfl rfl)
theorem dX4_slips_109 : decode cX4_slips 109 = .ok (.iload_n 1, 1) := dk_27 (dk_at dksX4_slips_4 15 rfl rfl)
theorem dX4_slips_110 : decode cX4_slips 110 = .ok (.imul, 1) := dk_104 (dk_at dksX4_slips_4 16 rfl rfl)
theorem dX4_slips_111 : decode cX4_slips 111 = .ok (.iaload, 1) := dk_46 (dk_at dksX4_slips_4 17 rfl rfl)
theorem dX4_slips_112 : decode cX4_slips 112 = .ok (.istore 6, 2) := dk_54 6 (dk_at dksX4_slips_4 18 rfl rfl)
theorem dX4_slips_114 : decode cX4_slips 114 = .ok (.iload_n 2, 1) := dk_28 (dk_at dksX4_slips_4 20 rfl rfl)
theorem dX4_slips_115 : decode cX4_slips 115 = .ok (.iload 6, 2) := dk_21 6 (dk_at dksX4_slips_4 21 rfl rfl)
theorem dX4_slips_117 : decode cX4_slips 117 = .ok (.if_icmp .ge 18, 3) := dk_162 0 18 (dk_at dksX4_slips_5 0 rfl rfl)
theorem dX4_slips_120 : decode cX4_slips 120 = .ok (.aload_n 0, 1) := dk_42 (dk_at dksX4_slips_5 3 rfl rfl)
theorem dX4_slips_121 : decode cX4_slips 121 = .ok (.getfield 66, 3) := dk_180 0 66 (dk_at dksX4_slips_5 4 rfl rfl)
theorem dX4_slips_124 : decode cX4_slips 124 = .ok (.iconst 2, 1) := dk_5 (dk_at dksX4_slips_5 7 rfl rfl)
theorem dX4_slips_125 : decode cX4_slips 125 = .ok (.iload_n 1, 1) := dk_27 (dk_at dksX4_slips_5 8 rfl rfl)
theorem dX4_slips_126 : decode cX4_slips 126 = .ok (.imul, 1) := dk_104 (dk_at dksX4_slips_5 9 rfl rfl)
theorem dX4_slips_127 : decode cX4_slips 127 = .ok (.iload 6, 2) := dk_21 6 (dk_at dksX4_slips_5 10 rfl rfl)
theorem dX4_slips_129 : decode cX4_slips 129 = .ok (.iload_n 2, 1) := dk_28 (dk_at dksX4_slips_5 12 rfl rfl)
theorem dX4_slips_130 : decode cX4_slips 130 = .ok (.isub, 1) := dk_100 (dk_at dksX4_slips_5 13 rfl rfl)
theorem dX4_slips_131 : decode cX4_slips 131 = .ok (.iastore, 1) := dk_79 (dk_at dksX4_slips_5 14 rfl rfl)
theorem dX4_slips_132 : decode cX4_slips 132 = .ok (.goto 17, 3) := dk_167 0 17 (dk_at dksX4_slips_5 15 rfl rfl)
theorem dX4_slips_135 : decode cX4_slips 135 = .ok (.aload_n 0, 1) := dk_42 (dk_at dksX4_slips_5 18 rfl rfl)
theorem dX4_slips_136 : decode cX4_slips 136 = .ok (.getfield 66, 3) := dk_180 0 66 (dk_at dksX4_slips_5 19 rfl rfl)
theorem dX4_slips_139 : decode cX4_slips 139 = .ok (.iconst 2, 1) := dk_5 (dk_at dksX4_slips_5 22 rfl rfl)
theorem dX4_slips_140 : decode cX4_slips 140 = .ok (.iload_n 1, 1) := dk_27 (dk_at dksX4_slips_5 23 rfl rfl)
theorem dX4_slips_141 : decode cX4_slips 141 = .ok (.imul, 1) := dk_104 (dk_at dksX4_slips_6 0 rfl rfl)
theorem dX4_slips_142 : decode cX4_slips 142 = .ok (.iconst 1, 1) := dk_4 (dk_at dksX4_slips_6 1 rfl rfl)
theorem dX4_slips_143 : decode cX4_slips 143 = .ok (.iadd, 1) := dk_96 (dk_at dksX4_slips_6 2 rfl rfl)
theorem dX4_slips_144 : decode cX4_slips 144 = .ok (.iload_n 2, 1) := dk_28 (dk_at dksX4_slips_6 3 rfl rfl)
theorem dX4_slips_145 : decode cX4_slips 145 = .ok (.iload 6, 2) := dk_21 6 (dk_at dksX4_slips_6 4 rfl rfl)
theorem dX4_slips_147 : decode cX4_slips 147 = .ok (.isub, 1) := dk_100 (dk_at dksX4_slips_6 6 rfl rfl)
theorem dX4_slips_148 : decode cX4_slips 148 = .ok (.iastore, 1) := dk_79 (dk_at dksX4_slips_6 7 rfl rfl)
theorem dX4_slips_149 : decode cX4_slips 149 = .ok (.aload_n 0, 1) := dk_42 (dk_at dksX4_slips_6 8 rfl rfl)
theorem dX4_slips_150 : decode cX4_slips 150 = .ok (.iload_n 1, 1) := dk_27 (dk_at dksX4_slips_6 9 rfl rfl)
theorem dX4_slips_151 : decode cX4_slips 151 = .ok (.iload_n 2, 1) := dk_28 (dk_at dksX4_slips_6 10 rfl rfl)
theorem dX4_slips_152 : decode cX4_slips 152 = .ok (.iload 6, 2) := dk_21 6 (dk_at dksX4_slips_6 11 rfl rfl)
theorem dX4_slips_154 : decode cX4_slips 154 = .ok (.if_icmp .ge 7, 3) := dk_162 0 7 (dk_at dksX4_slips_6 13 rfl rfl)
theorem dX4_slips_157 : decode cX4_slips 157 = .ok (.iconst 1, 1) := dk_4 (dk_at dksX4_slips_6 16 rfl rfl)
theorem dX4_slips_158 : decode cX4_slips 158 = .ok (.goto 4, 3) := dk_167 0 4 (dk_at dksX4_slips_6 17 rfl rfl)
theorem dX4_slips_161 : decode cX4_slips 161 = .ok (.iconst 0, 1) := dk_3 (dk_at dksX4_slips_6 20 rfl rfl)
theorem dX4_slips_162 : decode cX4_slips 162 = .ok (.iload_n 2, 1) := dk_28 (dk_at dksX4_slips_6 21 rfl rfl)
theorem dX4_slips_163 : decode cX4_slips 163 = .ok (.iload 4, 2) := dk_21 4 (dk_at dksX4_slips_6 22 rfl rfl)
theorem dX4_slips_165 : decode cX4_slips 165 = .ok (.iconst 1, 1) := dk_4 (dk_at dksX4_slips_7 0 rfl rfl)
theorem dX4_slips_166 : decode cX4_slips 166 = .ok (.iadd, 1) := dk_96 (dk_at dksX4_slips_7 1 rfl rfl)
theorem dX4_slips_167 : decode cX4_slips 167 = .ok (.invokevirtual 259, 3) := dk_182 1 3 (dk_at dksX4_slips_7 2 rfl rfl)
theorem dX4_slips_170 : decode cX4_slips 170 = .ok (.aload_n 0, 1) := dk_42 (dk_at dksX4_slips_7 5 rfl rfl)
theorem dX4_slips_171 : decode cX4_slips 171 = .ok (.iload 5, 2) := dk_21 5 (dk_at dksX4_slips_7 6 rfl rfl)
theorem dX4_slips_173 : decode cX4_slips 173 = .ok (.iload 4, 2) := dk_21 4 (dk_at dksX4_slips_7 8 rfl rfl)
theorem dX4_slips_175 : decode cX4_slips 175 = .ok (.iconst 1, 1) := dk_4 (dk_at dksX4_slips_7 10 rfl rfl)
theorem dX4_slips_176 : decode cX4_slips 176 = .ok (.iadd, 1) := dk_96 (dk_at dksX4_slips_7 11 rfl rfl)
theorem dX4_slips_177 : decode cX4_slips 177 = .ok (.invokevirtual 246, 3) := dk_182 0 246 (dk_at dksX4_slips_7 12 rfl rfl)
theorem dX4_slips_180 : decode cX4_slips 180 = .ok (.ireturn, 1) := dk_172 (dk_at dksX4_slips_7 15 rfl rfl)
def dkwX4_drops_6 : List UInt8 := [42, 27, 3, 28, 21, 5, 4, 100, 182, 1, 3, 42, 29, 21, 4, 182, 0, 246, 172]
abbrev dktX4_drops_6 : List UInt8 := dkwX4_drops_6 ++ []
def dkwX4_drops_5 : List UInt8 := [21, 5, 4, 100, 182, 1, 3, 167, 0, 28, 42, 180, 0, 66, 5, 27, 104, 4, 96, 28, 21, 6, 100, 79]
abbrev dktX4_drops_5 : List UInt8 := dkwX4_drops_5 ++ dktX4_drops_6
def dkwX4_drops_4 : List UInt8 := [162, 0, 33, 42, 180, 0, 66, 5, 27, 104, 21, 6, 4, 100, 28, 100, 79, 42, 27, 4, 28, 4, 100]
abbrev dktX4_drops_4 : List UInt8 := dkwX4_drops_4 ++ dktX4_drops_5
def dkwX4_drops_3 : List UInt8 := [180, 0, 81, 21, 7, 42, 180, 0, 81, 21, 7, 4, 96, 46, 79, 132, 7, 1, 167, 255, 228, 28, 21, 6]
abbrev dktX4_drops_3 : List UInt8 := dkwX4_drops_3 ++ dktX4_drops_4
def dkwX4_drops_2 : List UInt8 := [180, 0, 66, 5, 27, 104, 46, 54, 6, 28, 54, 7, 21, 7, 4, 96, 21, 5, 162, 0, 25, 42]
abbrev dktX4_drops_2 : List UInt8 := dkwX4_drops_2 ++ dktX4_drops_3
def dkwX4_drops_1 : List UInt8 := [16, 254, 172, 42, 180, 0, 184, 62, 42, 27, 28, 182, 0, 190, 54, 4, 42, 27, 182, 0, 196, 54, 5, 42]
abbrev dktX4_drops_1 : List UInt8 := dkwX4_drops_1 ++ dktX4_drops_2
def dkwX4_drops_0 : List UInt8 := [42, 3, 181, 0, 1, 27, 184, 0, 237, 154, 0, 5, 2, 172, 42, 27, 28, 182, 0, 255, 154, 0, 6]
abbrev dktX4_drops_0 : List UInt8 := dkwX4_drops_0 ++ dktX4_drops_1
theorem dksX4_drops_0 : cX4_drops.data.toList.drop 0 = dktX4_drops_0 := by decide +kernel
theorem dksX4_drops_1 : cX4_drops.data.toList.drop 23 = dktX4_drops_1 := dk_seg dksX4_drops_0 23 rfl rfl
theorem dksX4_drops_2 : cX4_drops.data.toList.drop 47 = dktX4_drops_2 := dk_seg dksX4_drops_1 24 rfl rfl
theorem dksX4_drops_3 : cX4_drops.data.toList.drop 69 = dktX4_drops_3 := dk_seg dksX4_drops_2 22 rfl rfl
theorem dksX4_drops_4 : cX4_drops.data.toList.drop 93 = dktX4_drops_4 := dk_seg dksX4_drops_3 24 rfl rfl
theorem dksX4_drops_5 : cX4_drops.data.toList.drop 116 = dktX4_drops_5 := dk_seg dksX4_drops_4 23 rfl rfl
theorem dksX4_drops_6 : cX4_drops.data.toList.drop 140 = dktX4_drops_6 := dk_seg dksX4_drops_5 24 rfl rfl
theorem dX4_drops_0 : decode cX4_drops 0 = .ok (.aload_n 0, 1) := dk_42 (dk_at dksX4_drops_0 0 rfl rfl)
theorem dX4_drops_1 : decode cX4_drops 1 = .ok (.iconst 0, 1) := dk_3 (dk_at dksX4_drops_0 1 rfl rfl)
theorem dX4_drops_2 : decode cX4_drops 2 = .ok (.putfield 1, 3) := dk_181 0 1 (dk_at dksX4_drops_0 2 rfl rfl)
theorem dX4_drops_5 : decode cX4_drops 5 = .ok (.iload_n 1, 1) := dk_27 (dk_at dksX4_drops_0 5 rfl rfl)
theorem dX4_drops_6 : decode cX4_drops 6 = .ok (.invokestatic 237, 3) := dk_184 0 237 (dk_at dksX4_drops_0 6 rfl rfl)
theorem dX4_drops_9 : decode cX4_drops 9 = .ok (.ifCond .ne 5, 3) := dk_154 0 5 (dk_at dksX4_drops_0 9 rfl rfl)
theorem dX4_drops_12 : decode cX4_drops 12 = .ok (.iconst (-1), 1) := dk_2 (dk_at dksX4_drops_0 12 rfl rfl)
theorem dX4_drops_13 : decode cX4_drops 13 = .ok (.ireturn, 1) := dk_172 (dk_at dksX4_drops_0 13 rfl rfl)
theorem dX4_drops_14 : decode cX4_drops 14 = .ok (.aload_n 0, 1) := dk_42 (dk_at dksX4_drops_0 14 rfl rfl)
theorem dX4_drops_15 : decode cX4_drops 15 = .ok (.iload_n 1, 1) := dk_27 (dk_at dksX4_drops_0 15 rfl rfl)
theorem dX4_drops_16 : decode cX4_drops 16 = .ok (.iload_n 2, 1) := dk_28 (dk_at dksX4_drops_0 16 rfl rfl)
theorem dX4_drops_17 : decode cX4_drops 17 = .ok (.invokevirtual 255, 3) := dk_182 0 255 (dk_at dksX4_drops_0 17 rfl rfl)
theorem dX4_drops_20 : decode cX4_drops 20 = .ok (.ifCond .ne 6, 3) := dk_154 0 6 (dk_at dksX4_drops_0 20 rfl rfl)
theorem dX4_drops_23 : decode cX4_drops 23 = .ok (.bipush (-2), 2) := dk_16 254 (dk_at dksX4_drops_1 0 rfl rfl)
theorem dX4_drops_25 : decode cX4_drops 25 = .ok (.ireturn, 1) := dk_172 (dk_at dksX4_drops_1 2 rfl rfl)
theorem dX4_drops_26 : decode cX4_drops 26 = .ok (.aload_n 0, 1) := dk_42 (dk_at dksX4_drops_1 3 rfl rfl)
theorem dX4_drops_27 : decode cX4_drops 27 = .ok (.getfield 184, 3) := dk_180 0 184 (dk_at dksX4_drops_1 4 rfl rfl)
theorem dX4_drops_30 : decode cX4_drops 30 = .ok (.istore_n 3, 1) := dk_62 (dk_at dksX4_drops_1 7 rfl rfl)
theorem dX4_drops_31 : decode cX4_drops 31 = .ok (.aload_n 0, 1) := dk_42 (dk_at dksX4_drops_1 8 rfl rfl)
theorem dX4_drops_32 : decode cX4_drops 32 = .ok (.iload_n 1, 1) := dk_27 (dk_at dksX4_drops_1 9 rfl rfl)
theorem dX4_drops_33 : decode cX4_drops 33 = .ok (.iload_n 2, 1) := dk_28 (dk_at dksX4_drops_1 10 rfl rfl)
theorem dX4_drops_34 : decode cX4_drops 34 = .ok (.invokevirtual 190, 3) := dk_182 0 190 (dk_at dksX4_drops_1 11 rfl rfl)
theorem dX4_drops_37 : decode cX4_drops 37 = .ok (.istore 4, 2) := dk_54 4 (dk_at dksX4_drops_1 14 rfl rfl)
theorem dX4_drops_39 : decode cX4_drops 39 = .ok (.aload_n 0, 1) := dk_42 (dk_at dksX4_drops_1 16 rfl rfl)
theorem dX4_drops_40 : decode cX4_drops 40 = .ok (.iload_n 1, 1) := dk_27 (dk_at dksX4_drops_1 17 rfl rfl)
theorem dX4_drops_41 : decode cX4_drops 41 = .ok (.invokevirtual 196, 3) := dk_182 0 196 (dk_at dksX4_drops_1 18 rfl rfl)
theorem dX4_drops_44 : decode cX4_drops 44 = .ok (.istore 5, 2) := dk_54 5 (dk_at dksX4_drops_1 21 rfl rfl)
theorem dX4_drops_46 : decode cX4_drops 46 = .ok (.aload_n 0, 1) := dk_42 (dk_at dksX4_drops_1 23 rfl rfl)
theorem dX4_drops_47 : decode cX4_drops 47 = .ok (.getfield 66, 3) := dk_180 0 66 (dk_at dksX4_drops_2 0 rfl rfl)
theorem dX4_drops_50 : decode cX4_drops 50 = .ok (.iconst 2, 1) := dk_5 (dk_at dksX4_drops_2 3 rfl rfl)
theorem dX4_drops_51 : decode cX4_drops 51 = .ok (.iload_n 1, 1) := dk_27 (dk_at dksX4_drops_2 4 rfl rfl)
theorem dX4_drops_52 : decode cX4_drops 52 = .ok (.imul, 1) := dk_104 (dk_at dksX4_drops_2 5 rfl rfl)
theorem dX4_drops_53 : decode cX4_drops 53 = .ok (.iaload, 1) := dk_46 (dk_at dksX4_drops_2 6 rfl rfl)
theorem dX4_drops_54 : decode cX4_drops 54 = .ok (.istore 6, 2) := dk_54 6 (dk_at dksX4_drops_2 7 rfl rfl)
theorem dX4_drops_56 : decode cX4_drops 56 = .ok (.iload_n 2, 1) := dk_28 (dk_at dksX4_drops_2 9 rfl rfl)
theorem dX4_drops_57 : decode cX4_drops 57 = .ok (.istore 7, 2) := dk_54 7 (dk_at dksX4_drops_2 10 rfl rfl)
theorem dX4_drops_59 : decode cX4_drops 59 = .ok (.iload 7, 2) := dk_21 7 (dk_at dksX4_drops_2 12 rfl rfl)
theorem dX4_drops_61 : decode cX4_drops 61 = .ok (.iconst 1, 1) := dk_4 (dk_at dksX4_drops_2 14 rfl rfl)
theorem dX4_drops_62 : decode cX4_drops 62 = .ok (.iadd, 1) := dk_96 (dk_at dksX4_drops_2 15 rfl rfl)
theorem dX4_drops_63 : decode cX4_drops 63 = .ok (.iload 5, 2) := dk_21 5 (dk_at dksX4_drops_2 16 rfl rfl)
theorem dX4_drops_65 : decode cX4_drops 65 = .ok (.if_icmp .ge 25, 3) := dk_162 0 25 (dk_at dksX4_drops_2 18 rfl rfl)
theorem dX4_drops_68 : decode cX4_drops 68 = .ok (.aload_n 0, 1) := dk_42 (dk_at dksX4_drops_2 21 rfl rfl)
theorem dX4_drops_69 : decode cX4_drops 69 = .ok (.getfield 81, 3) := dk_180 0 81 (dk_at dksX4_drops_3 0 rfl rfl)
theorem dX4_drops_72 : decode cX4_drops 72 = .ok (.iload 7, 2) := dk_21 7 (dk_at dksX4_drops_3 3 rfl rfl)
theorem dX4_drops_74 : decode cX4_drops 74 = .ok (.aload_n 0, 1) := dk_42 (dk_at dksX4_drops_3 5 rfl rfl)
theorem dX4_drops_75 : decode cX4_drops 75 = .ok (.getfield 81, 3) := dk_180 0 81 (dk_at dksX4_drops_3 6 rfl rfl)
theorem dX4_drops_78 : decode cX4_drops 78 = .ok (.iload 7, 2) := dk_21 7 (dk_at dksX4_drops_3 9 rfl rfl)
theorem dX4_drops_80 : decode cX4_drops 80 = .ok (.iconst 1, 1) := dk_4 (dk_at dksX4_drops_3 11 rfl rfl)
theorem dX4_drops_81 : decode cX4_drops 81 = .ok (.iadd, 1) := dk_96 (dk_at dksX4_drops_3 12 rfl rfl)
theorem dX4_drops_82 : decode cX4_drops 82 = .ok (.iaload, 1) := dk_46 (dk_at dksX4_drops_3 13 rfl rfl)
theorem dX4_drops_83 : decode cX4_drops 83 = .ok (.iastore, 1) := dk_79 (dk_at dksX4_drops_3 14 rfl rfl)
theorem dX4_drops_84 : decode cX4_drops 84 = .ok (.iinc 7 1, 3) := dk_132 7 1 (dk_at dksX4_drops_3 15 rfl rfl)
theorem dX4_drops_87 : decode cX4_drops 87 = .ok (.goto (-28), 3) := dk_167 255 228 (dk_at dksX4_drops_3 18 rfl rfl)
theorem dX4_drops_90 : decode cX4_drops 90 = .ok (.iload_n 2, 1) := dk_28 (dk_at dksX4_drops_3 21 rfl rfl)
theorem dX4_drops_91 : decode cX4_drops 91 = .ok (.iload 6, 2) := dk_21 6 (dk_at dksX4_drops_3 22 rfl rfl)
theorem dX4_drops_93 : decode cX4_drops 93 = .ok (.if_icmp .ge 33, 3) := dk_162 0 33 (dk_at dksX4_drops_4 0 rfl rfl)
theorem dX4_drops_96 : decode cX4_drops 96 = .ok (.aload_n 0, 1) := dk_42 (dk_at dksX4_drops_4 3 rfl rfl)
theorem dX4_drops_97 : decode cX4_drops 97 = .ok (.getfield 66, 3) := dk_180 0 66 (dk_at dksX4_drops_4 4 rfl rfl)
theorem dX4_drops_100 : decode cX4_drops 100 = .ok (.iconst 2, 1) := dk_5 (dk_at dksX4_drops_4 7 rfl rfl)
theorem dX4_drops_101 : decode cX4_drops 101 = .ok (.iload_n 1, 1) := dk_27 (dk_at dksX4_drops_4 8 rfl rfl)
theorem dX4_drops_102 : decode cX4_drops 102 = .ok (.imul, 1) := dk_104 (dk_at dksX4_drops_4 9 rfl rfl)
theorem dX4_drops_103 : decode cX4_drops 103 = .ok (.iload 6, 2) := dk_21 6 (dk_at dksX4_drops_4 10 rfl rfl)
theorem dX4_drops_105 : decode cX4_drops 105 = .ok (.iconst 1, 1) := dk_4 (dk_at dksX4_drops_4 12 rfl rfl)
theorem dX4_drops_106 : decode cX4_drops 106 = .ok (.isub, 1) := dk_100 (dk_at dksX4_drops_4 13 rfl rfl)
theorem dX4_drops_107 : decode cX4_drops 107 = .ok (.iload_n 2, 1) := dk_28 (dk_at dksX4_drops_4 14 rfl rfl)
theorem dX4_drops_108 : decode cX4_drops 108 = .ok (.isub, 1) := dk_100 (dk_at dksX4_drops_4 15 rfl rfl)
theorem dX4_drops_109 : decode cX4_drops 109 = .ok (.iastore, 1) := dk_79 (dk_at dksX4_drops_4 16 rfl rfl)
theorem dX4_drops_110 : decode cX4_drops 110 = .ok (.aload_n 0, 1) := dk_42 (dk_at dksX4_drops_4 17 rfl rfl)
theorem dX4_drops_111 : decode cX4_drops 111 = .ok (.iload_n 1, 1) := dk_27 (dk_at dksX4_drops_4 18 rfl rfl)
theorem dX4_drops_112 : decode cX4_drops 112 = .ok (.iconst 1, 1) := dk_4 (dk_at dksX4_drops_4 19 rfl rfl)
theorem dX4_drops_113 : decode cX4_drops 113 = .ok (.iload_n 2, 1) := dk_28 (dk_at dksX4_drops_4 20 rfl rfl)
theorem dX4_drops_114 : decode cX4_drops 114 = .ok (.iconst 1, 1) := dk_4 (dk_at dksX4_drops_4 21 rfl rfl)
theorem dX4_drops_115 : decode cX4_drops 115 = .ok (.isub, 1) := dk_100 (dk_at dksX4_drops_4 22 rfl rfl)
theorem dX4_drops_116 : decode cX4_drops 116 = .ok (.iload 5, 2) := dk_21 5 (dk_at dksX4_drops_5 0 rfl rfl)
theorem dX4_drops_118 : decode cX4_drops 118 = .ok (.iconst 1, 1) := dk_4 (dk_at dksX4_drops_5 2 rfl rfl)
theorem dX4_drops_119 : decode cX4_drops 119 = .ok (.isub, 1) := dk_100 (dk_at dksX4_drops_5 3 rfl rfl)
theorem dX4_drops_120 : decode cX4_drops 120 = .ok (.invokevirtual 259, 3) := dk_182 1 3 (dk_at dksX4_drops_5 4 rfl rfl)
theorem dX4_drops_123 : decode cX4_drops 123 = .ok (.goto 28, 3) := dk_167 0 28 (dk_at dksX4_drops_5 7 rfl rfl)
theorem dX4_drops_126 : decode cX4_drops 126 = .ok (.aload_n 0, 1) := dk_42 (dk_at dksX4_drops_5 10 rfl rfl)
theorem dX4_drops_127 : decode cX4_drops 127 = .ok (.getfield 66, 3) := dk_180 0 66 (dk_at dksX4_drops_5 11 rfl rfl)
theorem dX4_drops_130 : decode cX4_drops 130 = .ok (.iconst 2, 1) := dk_5 (dk_at dksX4_drops_5 14 rfl rfl)
theorem dX4_drops_131 : decode cX4_drops 131 = .ok (.iload_n 1, 1) := dk_27 (dk_at dksX4_drops_5 15 rfl rfl)
theorem dX4_drops_132 : decode cX4_drops 132 = .ok (.imul, 1) := dk_104 (dk_at dksX4_drops_5 16 rfl rfl)
theorem dX4_drops_133 : decode cX4_drops 133 = .ok (.iconst 1, 1) := dk_4 (dk_at dksX4_drops_5 17 rfl rfl)
theorem dX4_drops_134 : decode cX4_drops 134 = .ok (.iadd, 1) := dk_96 (dk_at dksX4_drops_5 18 rfl rfl)
theorem dX4_drops_135 : decode cX4_drops 135 = .ok (.iload_n 2, 1) := dk_28 (dk_at dksX4_drops_5 19 rfl rfl)
theorem dX4_drops_136 : decode cX4_drops 136 = .ok (.iload 6, 2) := dk_21 6 (dk_at dksX4_drops_5 20 rfl rfl)
theorem dX4_drops_138 : decode cX4_drops 138 = .ok (.isub, 1) := dk_100 (dk_at dksX4_drops_5 22 rfl rfl)
theorem dX4_drops_139 : decode cX4_drops 139 = .ok (.iastore, 1) := dk_79 (dk_at dksX4_drops_5 23 rfl rfl)
theorem dX4_drops_140 : decode cX4_drops 140 = .ok (.aload_n 0, 1) := dk_42 (dk_at dksX4_drops_6 0 rfl rfl)
theorem dX4_drops_141 : decode cX4_drops 141 = .ok (.iload_n 1, 1) := dk_27 (dk_at dksX4_drops_6 1 rfl rfl)
theorem dX4_drops_142 : decode cX4_drops 142 = .ok (.iconst 0, 1) := dk_3 (dk_at dksX4_drops_6 2 rfl rfl)
theorem dX4_drops_143 : decode cX4_drops 143 = .ok (.iload_n 2, 1) := dk_28 (dk_at dksX4_drops_6 3 rfl rfl)
theorem dX4_drops_144 : decode cX4_drops 144 = .ok (.iload 5, 2) := dk_21 5 (dk_at dksX4_drops_6 4 rfl rfl)
theorem dX4_drops_146 : decode cX4_drops 146 = .ok (.iconst 1, 1) := dk_4 (dk_at dksX4_drops_6 6 rfl rfl)
theorem dX4_drops_147 : decode cX4_drops 147 = .ok (.isub, 1) := dk_100 (dk_at dksX4_drops_6 7 rfl rfl)
theorem dX4_drops_148 : decode cX4_drops 148 = .ok (.invokevirtual 259, 3) := dk_182 1 3 (dk_at dksX4_drops_6 8 rfl rfl)
theorem dX4_drops_151 : decode cX4_drops 151 = .ok (.aload_n 0, 1) := dk_42 (dk_at dksX4_drops_6 11 rfl rfl)
theorem dX4_drops_152 : decode cX4_drops 152 = .ok (.iload_n 3, 1) := dk_29 (dk_at dksX4_drops_6 12 rfl rfl)
theorem dX4_drops_153 : decode cX4_drops 153 = .ok (.iload 4, 2) := dk_21 4 (dk_at dksX4_drops_6 13 rfl rfl)
theorem dX4_drops_155 : decode cX4_drops 155 = .ok (.invokevirtual 246, 3) := dk_182 0 246 (dk_at dksX4_drops_6 15 rfl rfl)
theorem dX4_drops_158 : decode cX4_drops 158 = .ok (.ireturn, 1) := dk_172 (dk_at dksX4_drops_6 18 rfl rfl)
def dkwX4_shifts_4 : List UInt8 := [182, 1, 12, 42, 180, 0, 184, 21, 4, 100, 172]
abbrev dktX4_shifts_4 : List UInt8 := dkwX4_shifts_4 ++ []
def dkwX4_shifts_3 : List UInt8 := [27, 104, 4, 96, 28, 100, 21, 6, 182, 0, 193, 132, 5, 1, 167, 255, 226, 42, 3, 181, 0, 11, 42, 27]
abbrev dktX4_shifts_3 : List UInt8 := dkwX4_shifts_3 ++ dktX4_shifts_4
def dkwX4_shifts_2 : List UInt8 := [180, 0, 184, 54, 4, 3, 54, 5, 21, 5, 29, 162, 0, 30, 42, 27, 28, 182, 0, 243, 54, 6, 42, 5]
abbrev dktX4_shifts_2 : List UInt8 := dkwX4_shifts_2 ++ dktX4_shifts_3
def dkwX4_shifts_1 : List UInt8 := [20, 1, 10, 184, 0, 21, 154, 0, 5, 2, 172, 42, 27, 182, 0, 187, 154, 0, 6, 16, 254, 172, 42]
abbrev dktX4_shifts_1 : List UInt8 := dkwX4_shifts_1 ++ dktX4_shifts_2
def dkwX4_shifts_0 : List UInt8 := [42, 3, 181, 0, 1, 27, 184, 0, 237, 153, 0, 22, 28, 184, 0, 240, 153, 0, 15, 29, 133, 10]
abbrev dktX4_shifts_0 : List UInt8 := dkwX4_shifts_0 ++ dktX4_shifts_1
theorem dksX4_shifts_0 : cX4_shifts.data.toList.drop 0 = dktX4_shifts_0 := by decide +kernel
theorem dksX4_shifts_1 : cX4_shifts.data.toList.drop 22 = dktX4_shifts_1 := dk_seg dksX4_shifts_0 22 rfl rfl
theorem dksX4_shifts_2 : cX4_shifts.data.toList.drop 45 = dktX4_shifts_2 := dk_seg dksX4_shifts_1 23 rfl rfl
theorem dksX4_shifts_3 : cX4_shifts.data.toList.drop 69 = dktX4_shifts_3 := dk_seg dksX4_shifts_2 24 rfl rfl
theorem dksX4_shifts_4 : cX4_shifts.data.toList.drop 93 = dktX4_shifts_4 := dk_seg dksX4_shifts_3 24 rfl rfl
theorem dX4_shifts_0 : decode cX4_shifts 0 = .ok (.aload_n 0, 1) := dk_42 (dk_at dksX4_shifts_0 0 rfl rfl)
theorem dX4_shifts_1 : decode cX4_shifts 1 = .ok (.iconst 0, 1) := dk_3 (dk_at dksX4_shifts_0 1 rfl rfl)
theorem dX4_shifts_2 : decode cX4_shifts 2 = .ok (.putfield 1, 3) := dk_181 0 1 (dk_at dksX4_shifts_0 2 rfl rfl)
theorem dX4_shifts_5 : decode cX4_shifts 5 = .ok (.iload_n 1, 1) := dk_27 (dk_at dksX4_shifts_0 5 rfl rfl)
theorem dX4_shifts_6 : decode cX4_shifts 6 = .ok (.invokestatic 237, 3) := dk_184 0 237 (dk_at dksX4_shifts_0 6 rfl rfl)
theorem dX4_shifts_9 : decode cX4_shifts 9 = .ok (.ifCond .eq 22, 3) := dk_153 0 22 (dk_at dksX4_shifts_0 9 rfl rfl)
theorem dX4_shifts_12 : decode cX4_shifts 12 = .ok (.iload_n 2, 1) := dk_28 (dk_at dksX4_shifts_0 12 rfl rfl)
theorem dX4_shifts_13 : decode cX4_shifts 13 = .ok (.invokestatic 240, 3) := dk_184 0 240 (dk_at dksX4_shifts_0 13 rfl rfl)
theorem dX4_shifts_16 : decode cX4_shifts 16 = .ok (.ifCond .eq 15, 3) := dk_153 0 15 (dk_at dksX4_shifts_0 16 rfl rfl)
theorem dX4_shifts_19 : decode cX4_shifts 19 = .ok (.iload_n 3, 1) := dk_29 (dk_at dksX4_shifts_0 19 rfl rfl)
theorem dX4_shifts_20 : decode cX4_shifts 20 = .ok (.i2l, 1) := dk_133 (dk_at dksX4_shifts_0 20 rfl rfl)
theorem dX4_shifts_21 : decode cX4_shifts 21 = .ok (.lconst 1, 1) := dk_10 (dk_at dksX4_shifts_0 21 rfl rfl)
theorem dX4_shifts_22 : decode cX4_shifts 22 = .ok (.ldc2_w 266, 3) := dk_20 1 10 (dk_at dksX4_shifts_1 0 rfl rfl)
theorem dX4_shifts_25 : decode cX4_shifts 25 = .ok (.invokestatic 21, 3) := dk_184 0 21 (dk_at dksX4_shifts_1 3 rfl rfl)
theorem dX4_shifts_28 : decode cX4_shifts 28 = .ok (.ifCond .ne 5, 3) := dk_154 0 5 (dk_at dksX4_shifts_1 6 rfl rfl)
theorem dX4_shifts_31 : decode cX4_shifts 31 = .ok (.iconst (-1), 1) := dk_2 (dk_at dksX4_shifts_1 9 rfl rfl)
theorem dX4_shifts_32 : decode cX4_shifts 32 = .ok (.ireturn, 1) := dk_172 (dk_at dksX4_shifts_1 10 rfl rfl)
theorem dX4_shifts_33 : decode cX4_shifts 33 = .ok (.aload_n 0, 1) := dk_42 (dk_at dksX4_shifts_1 11 rfl rfl)
theorem dX4_shifts_34 : decode cX4_shifts 34 = .ok (.iload_n 1, 1) := dk_27 (dk_at dksX4_shifts_1 12 rfl rfl)
theorem dX4_shifts_35 : decode cX4_shifts 35 = .ok (.invokevirtual 187, 3) := dk_182 0 187 (dk_at dksX4_shifts_1 13 rfl rfl)
theorem dX4_shifts_38 : decode cX4_shifts 38 = .ok (.ifCond .ne 6, 3) := dk_154 0 6 (dk_at dksX4_shifts_1 16 rfl rfl)
theorem dX4_shifts_41 : decode cX4_shifts 41 = .ok (.bipush (-2), 2) := dk_16 254 (dk_at dksX4_shifts_1 19 rfl rfl)
theorem dX4_shifts_43 : decode cX4_shifts 43 = .ok (.ireturn, 1) := dk_172 (dk_at dksX4_shifts_1 21 rfl rfl)
theorem dX4_shifts_44 : decode cX4_shifts 44 = .ok (.aload_n 0, 1) := dk_42 (dk_at dksX4_shifts_1 22 rfl rfl)
theorem dX4_shifts_45 : decode cX4_shifts 45 = .ok (.getfield 184, 3) := dk_180 0 184 (dk_at dksX4_shifts_2 0 rfl rfl)
theorem dX4_shifts_48 : decode cX4_shifts 48 = .ok (.istore 4, 2) := dk_54 4 (dk_at dksX4_shifts_2 3 rfl rfl)
theorem dX4_shifts_50 : decode cX4_shifts 50 = .ok (.iconst 0, 1) := dk_3 (dk_at dksX4_shifts_2 5 rfl rfl)
theorem dX4_shifts_51 : decode cX4_shifts 51 = .ok (.istore 5, 2) := dk_54 5 (dk_at dksX4_shifts_2 6 rfl rfl)
theorem dX4_shifts_53 : decode cX4_shifts 53 = .ok (.iload 5, 2) := dk_21 5 (dk_at dksX4_shifts_2 8 rfl rfl)
theorem dX4_shifts_55 : decode cX4_shifts 55 = .ok (.iload_n 3, 1) := dk_29 (dk_at dksX4_shifts_2 10 rfl rfl)
theorem dX4_shifts_56 : decode cX4_shifts 56 = .ok (.if_icmp .ge 30, 3) := dk_162 0 30 (dk_at dksX4_shifts_2 11 rfl rfl)
theorem dX4_shifts_59 : decode cX4_shifts 59 = .ok (.aload_n 0, 1) := dk_42 (dk_at dksX4_shifts_2 14 rfl rfl)
theorem dX4_shifts_60 : decode cX4_shifts 60 = .ok (.iload_n 1, 1) := dk_27 (dk_at dksX4_shifts_2 15 rfl rfl)
theorem dX4_shifts_61 : decode cX4_shifts 61 = .ok (.iload_n 2, 1) := dk_28 (dk_at dksX4_shifts_2 16 rfl rfl)
theorem dX4_shifts_62 : decode cX4_shifts 62 = .ok (.invokevirtual 243, 3) := dk_182 0 243 (dk_at dksX4_shifts_2 17 rfl rfl)
theorem dX4_shifts_65 : decode cX4_shifts 65 = .ok (.istore 6, 2) := dk_54 6 (dk_at dksX4_shifts_2 20 rfl rfl)
theorem dX4_shifts_67 : decode cX4_shifts 67 = .ok (.aload_n 0, 1) := dk_42 (dk_at dksX4_shifts_2 22 rfl rfl)
theorem dX4_shifts_68 : decode cX4_shifts 68 = .ok (.iconst 2, 1) := dk_5 (dk_at dksX4_shifts_2 23 rfl rfl)
theorem dX4_shifts_69 : decode cX4_shifts 69 = .ok (.iload_n 1, 1) := dk_27 (dk_at dksX4_shifts_3 0 rfl rfl)
theorem dX4_shifts_70 : decode cX4_shifts 70 = .ok (.imul, 1) := dk_104 (dk_at dksX4_shifts_3 1 rfl rfl)
theorem dX4_shifts_71 : decode cX4_shifts 71 = .ok (.iconst 1, 1) := dk_4 (dk_at dksX4_shifts_3 2 rfl rfl)
theorem dX4_shifts_72 : decode cX4_shifts 72 = .ok (.iadd, 1) := dk_96 (dk_at dksX4_shifts_3 3 rfl rfl)
theorem dX4_shifts_73 : decode cX4_shifts 73 = .ok (.iload_n 2, 1) := dk_28 (dk_at dksX4_shifts_3 4 rfl rfl)
theorem dX4_shifts_74 : decode cX4_shifts 74 = .ok (.isub, 1) := dk_100 (dk_at dksX4_shifts_3 5 rfl rfl)
theorem dX4_shifts_75 : decode cX4_shifts 75 = .ok (.iload 6, 2) := dk_21 6 (dk_at dksX4_shifts_3 6 rfl rfl)
theorem dX4_shifts_77 : decode cX4_shifts 77 = .ok (.invokevirtual 193, 3) := dk_182 0 193 (dk_at dksX4_shifts_3 8 rfl rfl)
theorem dX4_shifts_80 : decode cX4_shifts 80 = .ok (.iinc 5 1, 3) := dk_132 5 1 (dk_at dksX4_shifts_3 11 rfl rfl)
theorem dX4_shifts_83 : decode cX4_shifts 83 = .ok (.goto (-30), 3) := dk_167 255 226 (dk_at dksX4_shifts_3 14 rfl rfl)
theorem dX4_shifts_86 : decode cX4_shifts 86 = .ok (.aload_n 0, 1) := dk_42 (dk_at dksX4_shifts_3 17 rfl rfl)
theorem dX4_shifts_87 : decode cX4_shifts 87 = .ok (.iconst 0, 1) := dk_3 (dk_at dksX4_shifts_3 18 rfl rfl)
theorem dX4_shifts_88 : decode cX4_shifts 88 = .ok (.putfield 11, 3) := dk_181 0 11 (dk_at dksX4_shifts_3 19 rfl rfl)
theorem dX4_shifts_91 : decode cX4_shifts 91 = .ok (.aload_n 0, 1) := dk_42 (dk_at dksX4_shifts_3 22 rfl rfl)
theorem dX4_shifts_92 : decode cX4_shifts 92 = .ok (.iload_n 1, 1) := dk_27 (dk_at dksX4_shifts_3 23 rfl rfl)
theorem dX4_shifts_93 : decode cX4_shifts 93 = .ok (.invokevirtual 268, 3) := dk_182 1 12 (dk_at dksX4_shifts_4 0 rfl rfl)
theorem dX4_shifts_96 : decode cX4_shifts 96 = .ok (.aload_n 0, 1) := dk_42 (dk_at dksX4_shifts_4 3 rfl rfl)
theorem dX4_shifts_97 : decode cX4_shifts 97 = .ok (.getfield 184, 3) := dk_180 0 184 (dk_at dksX4_shifts_4 4 rfl rfl)
theorem dX4_shifts_100 : decode cX4_shifts 100 = .ok (.iload 4, 2) := dk_21 4 (dk_at dksX4_shifts_4 7 rfl rfl)
theorem dX4_shifts_102 : decode cX4_shifts 102 = .ok (.isub, 1) := dk_100 (dk_at dksX4_shifts_4 9 rfl rfl)
theorem dX4_shifts_103 : decode cX4_shifts 103 = .ok (.ireturn, 1) := dk_172 (dk_at dksX4_shifts_4 10 rfl rfl)
def dkwX4_entersSummary_0 : List UInt8 := [42, 27, 182, 1, 7, 42, 42, 180, 0, 96, 182, 0, 164, 42, 42, 180, 0, 100, 182, 0, 164, 177]
abbrev dktX4_entersSummary_0 : List UInt8 := dkwX4_entersSummary_0 ++ []
theorem dksX4_entersSummary_0 : cX4_entersSummary.data.toList.drop 0 = dktX4_entersSummary_0 := by decide +kernel
theorem dX4_entersSummary_0 : decode cX4_entersSummary 0 = .ok (.aload_n 0, 1) := dk_42 (dk_at dksX4_entersSummary_0 0 rfl rfl)
theorem dX4_entersSummary_1 : decode cX4_entersSummary 1 = .ok (.iload_n 1, 1) := dk_27 (dk_at dksX4_entersSummary_0 1 rfl rfl)
theorem dX4_entersSummary_2 : decode cX4_entersSummary 2 = .ok (.invokevirtual 263, 3) := dk_182 1 7 (dk_at dksX4_entersSummary_0 2 rfl rfl)
theorem dX4_entersSummary_5 : decode cX4_entersSummary 5 = .ok (.aload_n 0, 1) := dk_42 (dk_at dksX4_entersSummary_0 5 rfl rfl)
theorem dX4_entersSummary_6 : decode cX4_entersSummary 6 = .ok (.aload_n 0, 1) := dk_42 (dk_at dksX4_entersSummary_0 6 rfl rfl)
theorem dX4_entersSummary_7 : decode cX4_entersSummary 7 = .ok (.getfield 96, 3) := dk_180 0 96 (dk_at dksX4_entersSummary_0 7 rfl rfl)
theorem dX4_entersSummary_10 : decode cX4_entersSummary 10 = .ok (.invokevirtual 164, 3) := dk_182 0 164 (dk_at dksX4_entersSummary_0 10 rfl rfl)
theorem dX4_entersSummary_13 : decode cX4_entersSummary 13 = .ok (.aload_n 0, 1) := dk_42 (dk_at dksX4_entersSummary_0 13 rfl rfl)
theorem dX4_entersSummary_14 : decode cX4_entersSummary 14 = .ok (.aload_n 0, 1) := dk_42 (dk_at dksX4_entersSummary_0 14 rfl rfl)
theorem dX4_entersSummary_15 : decode cX4_entersSummary 15 = .ok (.getfield 100, 3) := dk_180 0 100 (dk_at dksX4_entersSummary_0 15 rfl rfl)
theorem dX4_entersSummary_18 : decode cX4_entersSummary 18 = .ok (.invokevirtual 164, 3) := dk_182 0 164 (dk_at dksX4_entersSummary_0 18 rfl rfl)
theorem dX4_entersSummary_21 : decode cX4_entersSummary 21 = .ok (.return_, 1) := dk_177 (dk_at dksX4_entersSummary_0 21 rfl rfl)
def dkwX4_summary_5 : List UInt8 := [180, 0, 78, 21, 4, 47, 42, 180, 0, 75, 21, 5, 47, 42, 180, 0, 78, 21, 5, 47, 182, 0, 152, 177]
abbrev dktX4_summary_5 : List UInt8 := dkwX4_summary_5 ++ []
def dkwX4_summary_4 : List UInt8 := [42, 180, 0, 78, 21, 4, 47, 182, 0, 107, 167, 0, 35, 42, 42, 180, 0, 75, 21, 4, 47, 42]
abbrev dktX4_summary_4 : List UInt8 := dkwX4_summary_4 ++ dktX4_summary_5
def dkwX4_summary_3 : List UInt8 := [180, 0, 78, 21, 5, 47, 182, 0, 107, 167, 0, 60, 29, 154, 0, 24, 42, 42, 180, 0, 75, 21, 4, 47]
abbrev dktX4_summary_3 : List UInt8 := dkwX4_summary_3 ++ dktX4_summary_4
def dkwX4_summary_2 : List UInt8 := [29, 154, 0, 10, 42, 182, 0, 168, 167, 0, 85, 28, 154, 0, 24, 42, 42, 180, 0, 75, 21, 5, 47, 42]
abbrev dktX4_summary_2 : List UInt8 := dkwX4_summary_2 ++ dktX4_summary_3
def dkwX4_summary_1 : List UInt8 := [4, 100, 184, 0, 178, 54, 4, 5, 27, 104, 4, 96, 29, 4, 100, 184, 0, 178, 54, 5, 28, 154, 0, 14]
abbrev dktX4_summary_1 : List UInt8 := dkwX4_summary_1 ++ dktX4_summary_2
def dkwX4_summary_0 : List UInt8 := [42, 180, 0, 66, 5, 27, 104, 46, 61, 42, 180, 0, 66, 5, 27, 104, 4, 96, 46, 62, 5, 27, 104, 28]
abbrev dktX4_summary_0 : List UInt8 := dkwX4_summary_0 ++ dktX4_summary_1
theorem dksX4_summary_0 : cX4_summary.data.toList.drop 0 = dktX4_summary_0 := by decide +kernel
theorem dksX4_summary_1 : cX4_summary.data.toList.drop 24 = dktX4_summary_1 := dk_seg dksX4_summary_0 24 rfl rfl
theorem dksX4_summary_2 : cX4_summary.data.toList.drop 48 = dktX4_summary_2 := dk_seg dksX4_summary_1 24 rfl rfl
theorem dksX4_summary_3 : cX4_summary.data.toList.drop 72 = dktX4_summary_3 := dk_seg dksX4_summary_2 24 rfl rfl
theorem dksX4_summary_4 : cX4_summary.data.toList.drop 96 = dktX4_summary_4 := dk_seg dksX4_summary_3 24 rfl rfl
theorem dksX4_summary_5 : cX4_summary.data.toList.drop 118 = dktX4_summary_5 := dk_seg dksX4_summary_4 22 rfl rfl
theorem dX4_summary_0 : decode cX4_summary 0 = .ok (.aload_n 0, 1) := dk_42 (dk_at dksX4_summary_0 0 rfl rfl)
theorem dX4_summary_1 : decode cX4_summary 1 = .ok (.getfield 66, 3) := dk_180 0 66 (dk_at dksX4_summary_0 1 rfl rfl)
theorem dX4_summary_4 : decode cX4_summary 4 = .ok (.iconst 2, 1) := dk_5 (dk_at dksX4_summary_0 4 rfl rfl)
theorem dX4_summary_5 : decode cX4_summary 5 = .ok (.iload_n 1, 1) := dk_27 (dk_at dksX4_summary_0 5 rfl rfl)
theorem dX4_summary_6 : decode cX4_summary 6 = .ok (.imul, 1) := dk_104 (dk_at dksX4_summary_0 6 rfl rfl)
theorem dX4_summary_7 : decode cX4_summary 7 = .ok (.iaload, 1) := dk_46 (dk_at dksX4_summary_0 7 rfl rfl)
theorem dX4_summary_8 : decode cX4_summary 8 = .ok (.istore_n 2, 1) := dk_61 (dk_at dksX4_summary_0 8 rfl rfl)
theorem dX4_summary_9 : decode cX4_summary 9 = .ok (.aload_n 0, 1) := dk_42 (dk_at dksX4_summary_0 9 rfl rfl)
theorem dX4_summary_10 : decode cX4_summary 10 = .ok (.getfield 66, 3) := dk_180 0 66 (dk_at dksX4_summary_0 10 rfl rfl)
theorem dX4_summary_13 : decode cX4_summary 13 = .ok (.iconst 2, 1) := dk_5 (dk_at dksX4_summary_0 13 rfl rfl)
theorem dX4_summary_14 : decode cX4_summary 14 = .ok (.iload_n 1, 1) := dk_27 (dk_at dksX4_summary_0 14 rfl rfl)
theorem dX4_summary_15 : decode cX4_summary 15 = .ok (.imul, 1) := dk_104 (dk_at dksX4_summary_0 15 rfl rfl)
theorem dX4_summary_16 : decode cX4_summary 16 = .ok (.iconst 1, 1) := dk_4 (dk_at dksX4_summary_0 16 rfl rfl)
theorem dX4_summary_17 : decode cX4_summary 17 = .ok (.iadd, 1) := dk_96 (dk_at dksX4_summary_0 17 rfl rfl)
theorem dX4_summary_18 : decode cX4_summary 18 = .ok (.iaload, 1) := dk_46 (dk_at dksX4_summary_0 18 rfl rfl)
theorem dX4_summary_19 : decode cX4_summary 19 = .ok (.istore_n 3, 1) := dk_62 (dk_at dksX4_summary_0 19 rfl rfl)
theorem dX4_summary_20 : decode cX4_summary 20 = .ok (.iconst 2, 1) := dk_5 (dk_at dksX4_summary_0 20 rfl rfl)
theorem dX4_summary_21 : decode cX4_summary 21 = .ok (.iload_n 1, 1) := dk_27 (dk_at dksX4_summary_0 21 rfl rfl)
theorem dX4_summary_22 : decode cX4_summary 22 = .ok (.imul, 1) := dk_104 (dk_at dksX4_summary_0 22 rfl rfl)
theorem dX4_summary_23 : decode cX4_summary 23 = .ok (.iload_n 2, 1) := dk_28 (dk_at dksX4_summary_0 23 rfl rfl)
theorem dX4_summary_24 : decode cX4_summary 24 = .ok (.iconst 1, 1) := dk_4 (dk_at dksX4_summary_1 0 rfl rfl)
theorem dX4_summary_25 : decode cX4_summary 25 = .ok (.isub, 1) := dk_100 (dk_at dksX4_summary_1 1 rfl rfl)
theorem dX4_summary_26 : decode cX4_summary 26 = .ok (.invokestatic 178, 3) := dk_184 0 178 (dk_at dksX4_summary_1 2 rfl rfl)
theorem dX4_summary_29 : decode cX4_summary 29 = .ok (.istore 4, 2) := dk_54 4 (dk_at dksX4_summary_1 5 rfl rfl)
theorem dX4_summary_31 : decode cX4_summary 31 = .ok (.iconst 2, 1) := dk_5 (dk_at dksX4_summary_1 7 rfl rfl)
theorem dX4_summary_32 : decode cX4_summary 32 = .ok (.iload_n 1, 1) := dk_27 (dk_at dksX4_summary_1 8 rfl rfl)
theorem dX4_summary_33 : decode cX4_summary 33 = .ok (.imul, 1) := dk_104 (dk_at dksX4_summary_1 9 rfl rfl)
theorem dX4_summary_34 : decode cX4_summary 34 = .ok (.iconst 1, 1) := dk_4 (dk_at dksX4_summary_1 10 rfl rfl)
theorem dX4_summary_35 : decode cX4_summary 35 = .ok (.iadd, 1) := dk_96 (dk_at dksX4_summary_1 11 rfl rfl)
theorem dX4_summary_36 : decode cX4_summary 36 = .ok (.iload_n 3, 1) := dk_29 (dk_at dksX4_summary_1 12 rfl rfl)
theorem dX4_summary_37 : decode cX4_summary 37 = .ok (.iconst 1, 1) := dk_4 (dk_at dksX4_summary_1 13 rfl rfl)
theorem dX4_summary_38 : decode cX4_summary 38 = .ok (.isub, 1) := dk_100 (dk_at dksX4_summary_1 14 rfl rfl)
theorem dX4_summary_39 : decode cX4_summary 39 = .ok (.invokestatic 178, 3) := dk_184 0 178 (dk_at dksX4_summary_1 15 rfl rfl)
theorem dX4_summary_42 : decode cX4_summary 42 = .ok (.istore 5, 2) := dk_54 5 (dk_at dksX4_summary_1 18 rfl rfl)
theorem dX4_summary_44 : decode cX4_summary 44 = .ok (.iload_n 2, 1) := dk_28 (dk_at dksX4_summary_1 20 rfl rfl)
theorem dX4_summary_45 : decode cX4_summary 45 = .ok (.ifCond .ne 14, 3) := dk_154 0 14 (dk_at dksX4_summary_1 21 rfl rfl)
theorem dX4_summary_48 : decode cX4_summary 48 = .ok (.iload_n 3, 1) := dk_29 (dk_at dksX4_summary_2 0 rfl rfl)
theorem dX4_summary_49 : decode cX4_summary 49 = .ok (.ifCond .ne 10, 3) := dk_154 0 10 (dk_at dksX4_summary_2 1 rfl rfl)
theorem dX4_summary_52 : decode cX4_summary 52 = .ok (.aload_n 0, 1) := dk_42 (dk_at dksX4_summary_2 4 rfl rfl)
theorem dX4_summary_53 : decode cX4_summary 53 = .ok (.invokevirtual 168, 3) := dk_182 0 168 (dk_at dksX4_summary_2 5 rfl rfl)
theorem dX4_summary_56 : decode cX4_summary 56 = .ok (.goto 85, 3) := dk_167 0 85 (dk_at dksX4_summary_2 8 rfl rfl)
theorem dX4_summary_59 : decode cX4_summary 59 = .ok (.iload_n 2, 1) := dk_28 (dk_at dksX4_summary_2 11 rfl rfl)
theorem dX4_summary_60 : decode cX4_summary 60 = .ok (.ifCond .ne 24, 3) := dk_154 0 24 (dk_at dksX4_summary_2 12 rfl rfl)
theorem dX4_summary_63 : decode cX4_summary 63 = .ok (.aload_n 0, 1) := dk_42 (dk_at dksX4_summary_2 15 rfl rfl)
theorem dX4_summary_64 : decode cX4_summary 64 = .ok (.aload_n 0, 1) := dk_42 (dk_at dksX4_summary_2 16 rfl rfl)
theorem dX4_summary_65 : decode cX4_summary 65 = .ok (.getfield 75, 3) := dk_180 0 75 (dk_at dksX4_summary_2 17 rfl rfl)
theorem dX4_summary_68 : decode cX4_summary 68 = .ok (.iload 5, 2) := dk_21 5 (dk_at dksX4_summary_2 20 rfl rfl)
theorem dX4_summary_70 : decode cX4_summary 70 = .ok (.laload, 1) := dk_47 (dk_at dksX4_summary_2 22 rfl rfl)
theorem dX4_summary_71 : decode cX4_summary 71 = .ok (.aload_n 0, 1) := dk_42 (dk_at dksX4_summary_2 23 rfl rfl)
theorem dX4_summary_72 : decode cX4_summary 72 = .ok (.getfield 78, 3) := dk_180 0 78 (dk_at dksX4_summary_3 0 rfl rfl)
theorem dX4_summary_75 : decode cX4_summary 75 = .ok (.iload 5, 2) := dk_21 5 (dk_at dksX4_summary_3 3 rfl rfl)
theorem dX4_summary_77 : decode cX4_summary 77 = .ok (.laload, 1) := dk_47 (dk_at dksX4_summary_3 5 rfl rfl)
theorem dX4_summary_78 : decode cX4_summary 78 = .ok (.invokevirtual 107, 3) := dk_182 0 107 (dk_at dksX4_summary_3 6 rfl rfl)
theorem dX4_summary_81 : decode cX4_summary 81 = .ok (.goto 60, 3) := dk_167 0 60 (dk_at dksX4_summary_3 9 rfl rfl)
theorem dX4_summary_84 : decode cX4_summary 84 = .ok (.iload_n 3, 1) := dk_29 (dk_at dksX4_summary_3 12 rfl rfl)
theorem dX4_summary_85 : decode cX4_summary 85 = .ok (.ifCond .ne 24, 3) := dk_154 0 24 (dk_at dksX4_summary_3 13 rfl rfl)
theorem dX4_summary_88 : decode cX4_summary 88 = .ok (.aload_n 0, 1) := dk_42 (dk_at dksX4_summary_3 16 rfl rfl)
theorem dX4_summary_89 : decode cX4_summary 89 = .ok (.aload_n 0, 1) := dk_42 (dk_at dksX4_summary_3 17 rfl rfl)
theorem dX4_summary_90 : decode cX4_summary 90 = .ok (.getfield 75, 3) := dk_180 0 75 (dk_at dksX4_summary_3 18 rfl rfl)
theorem dX4_summary_93 : decode cX4_summary 93 = .ok (.iload 4, 2) := dk_21 4 (dk_at dksX4_summary_3 21 rfl rfl)
theorem dX4_summary_95 : decode cX4_summary 95 = .ok (.laload, 1) := dk_47 (dk_at dksX4_summary_3 23 rfl rfl)
theorem dX4_summary_96 : decode cX4_summary 96 = .ok (.aload_n 0, 1) := dk_42 (dk_at dksX4_summary_4 0 rfl rfl)
theorem dX4_summary_97 : decode cX4_summary 97 = .ok (.getfield 78, 3) := dk_180 0 78 (dk_at dksX4_summary_4 1 rfl rfl)
theorem dX4_summary_100 : decode cX4_summary 100 = .ok (.iload 4, 2) := dk_21 4 (dk_at dksX4_summary_4 4 rfl rfl)
theorem dX4_summary_102 : decode cX4_summary 102 = .ok (.laload, 1) := dk_47 (dk_at dksX4_summary_4 6 rfl rfl)
theorem dX4_summary_103 : decode cX4_summary 103 = .ok (.invokevirtual 107, 3) := dk_182 0 107 (dk_at dksX4_summary_4 7 rfl rfl)
theorem dX4_summary_106 : decode cX4_summary 106 = .ok (.goto 35, 3) := dk_167 0 35 (dk_at dksX4_summary_4 10 rfl rfl)
theorem dX4_summary_109 : decode cX4_summary 109 = .ok (.aload_n 0, 1) := dk_42 (dk_at dksX4_summary_4 13 rfl rfl)
theorem dX4_summary_110 : decode cX4_summary 110 = .ok (.aload_n 0, 1) := dk_42 (dk_at dksX4_summary_4 14 rfl rfl)
theorem dX4_summary_111 : decode cX4_summary 111 = .ok (.getfield 75, 3) := dk_180 0 75 (dk_at dksX4_summary_4 15 rfl rfl)
theorem dX4_summary_114 : decode cX4_summary 114 = .ok (.iload 4, 2) := dk_21 4 (dk_at dksX4_summary_4 18 rfl rfl)
theorem dX4_summary_116 : decode cX4_summary 116 = .ok (.laload, 1) := dk_47 (dk_at dksX4_summary_4 20 rfl rfl)
theorem dX4_summary_117 : decode cX4_summary 117 = .ok (.aload_n 0, 1) := dk_42 (dk_at dksX4_summary_4 21 rfl rfl)
theorem dX4_summary_118 : decode cX4_summary 118 = .ok (.getfield 78, 3) := dk_180 0 78 (dk_at dksX4_summary_5 0 rfl rfl)
theorem dX4_summary_121 : decode cX4_summary 121 = .ok (.iload 4, 2) := dk_21 4 (dk_at dksX4_summary_5 3 rfl rfl)
theorem dX4_summary_123 : decode cX4_summary 123 = .ok (.laload, 1) := dk_47 (dk_at dksX4_summary_5 5 rfl rfl)
theorem dX4_summary_124 : decode cX4_summary 124 = .ok (.aload_n 0, 1) := dk_42 (dk_at dksX4_summary_5 6 rfl rfl)
theorem dX4_summary_125 : decode cX4_summary 125 = .ok (.getfield 75, 3) := dk_180 0 75 (dk_at dksX4_summary_5 7 rfl rfl)
theorem dX4_summary_128 : decode cX4_summary 128 = .ok (.iload 5, 2) := dk_21 5 (dk_at dksX4_summary_5 10 rfl rfl)
theorem dX4_summary_130 : decode cX4_summary 130 = .ok (.laload, 1) := dk_47 (dk_at dksX4_summary_5 12 rfl rfl)
theorem dX4_summary_131 : decode cX4_summary 131 = .ok (.aload_n 0, 1) := dk_42 (dk_at dksX4_summary_5 13 rfl rfl)
theorem dX4_summary_132 : decode cX4_summary 132 = .ok (.getfield 78, 3) := dk_180 0 78 (dk_at dksX4_summary_5 14 rfl rfl)
theorem dX4_summary_135 : decode cX4_summary 135 = .ok (.iload 5, 2) := dk_21 5 (dk_at dksX4_summary_5 17 rfl rfl)
theorem dX4_summary_137 : decode cX4_summary 137 = .ok (.laload, 1) := dk_47 (dk_at dksX4_summary_5 19 rfl rfl)
theorem dX4_summary_138 : decode cX4_summary 138 = .ok (.invokevirtual 152, 3) := dk_182 0 152 (dk_at dksX4_summary_5 20 rfl rfl)
theorem dX4_summary_141 : decode cX4_summary 141 = .ok (.return_, 1) := dk_177 (dk_at dksX4_summary_5 23 rfl rfl)
def dkwX4_clears_1 : List UInt8 := [5, 27, 104, 3, 79, 42, 180, 0, 66, 5, 27, 104, 4, 96, 3, 79, 28, 172]
abbrev dktX4_clears_1 : List UInt8 := dkwX4_clears_1 ++ []
def dkwX4_clears_0 : List UInt8 := [42, 3, 181, 0, 1, 27, 184, 0, 237, 154, 0, 5, 2, 172, 42, 27, 182, 0, 187, 61, 42, 180, 0, 66]
abbrev dktX4_clears_0 : List UInt8 := dkwX4_clears_0 ++ dktX4_clears_1
theorem dksX4_clears_0 : cX4_clears.data.toList.drop 0 = dktX4_clears_0 := by decide +kernel
theorem dksX4_clears_1 : cX4_clears.data.toList.drop 24 = dktX4_clears_1 := dk_seg dksX4_clears_0 24 rfl rfl
theorem dX4_clears_0 : decode cX4_clears 0 = .ok (.aload_n 0, 1) := dk_42 (dk_at dksX4_clears_0 0 rfl rfl)
theorem dX4_clears_1 : decode cX4_clears 1 = .ok (.iconst 0, 1) := dk_3 (dk_at dksX4_clears_0 1 rfl rfl)
theorem dX4_clears_2 : decode cX4_clears 2 = .ok (.putfield 1, 3) := dk_181 0 1 (dk_at dksX4_clears_0 2 rfl rfl)
theorem dX4_clears_5 : decode cX4_clears 5 = .ok (.iload_n 1, 1) := dk_27 (dk_at dksX4_clears_0 5 rfl rfl)
theorem dX4_clears_6 : decode cX4_clears 6 = .ok (.invokestatic 237, 3) := dk_184 0 237 (dk_at dksX4_clears_0 6 rfl rfl)
theorem dX4_clears_9 : decode cX4_clears 9 = .ok (.ifCond .ne 5, 3) := dk_154 0 5 (dk_at dksX4_clears_0 9 rfl rfl)
theorem dX4_clears_12 : decode cX4_clears 12 = .ok (.iconst (-1), 1) := dk_2 (dk_at dksX4_clears_0 12 rfl rfl)
theorem dX4_clears_13 : decode cX4_clears 13 = .ok (.ireturn, 1) := dk_172 (dk_at dksX4_clears_0 13 rfl rfl)
theorem dX4_clears_14 : decode cX4_clears 14 = .ok (.aload_n 0, 1) := dk_42 (dk_at dksX4_clears_0 14 rfl rfl)
theorem dX4_clears_15 : decode cX4_clears 15 = .ok (.iload_n 1, 1) := dk_27 (dk_at dksX4_clears_0 15 rfl rfl)
theorem dX4_clears_16 : decode cX4_clears 16 = .ok (.invokevirtual 187, 3) := dk_182 0 187 (dk_at dksX4_clears_0 16 rfl rfl)
theorem dX4_clears_19 : decode cX4_clears 19 = .ok (.istore_n 2, 1) := dk_61 (dk_at dksX4_clears_0 19 rfl rfl)
theorem dX4_clears_20 : decode cX4_clears 20 = .ok (.aload_n 0, 1) := dk_42 (dk_at dksX4_clears_0 20 rfl rfl)
theorem dX4_clears_21 : decode cX4_clears 21 = .ok (.getfield 66, 3) := dk_180 0 66 (dk_at dksX4_clears_0 21 rfl rfl)
theorem dX4_clears_24 : decode cX4_clears 24 = .ok (.iconst 2, 1) := dk_5 (dk_at dksX4_clears_1 0 rfl rfl)
theorem dX4_clears_25 : decode cX4_clears 25 = .ok (.iload_n 1, 1) := dk_27 (dk_at dksX4_clears_1 1 rfl rfl)
theorem dX4_clears_26 : decode cX4_clears 26 = .ok (.imul, 1) := dk_104 (dk_at dksX4_clears_1 2 rfl rfl)
theorem dX4_clears_27 : decode cX4_clears 27 = .ok (.iconst 0, 1) := dk_3 (dk_at dksX4_clears_1 3 rfl rfl)
theorem dX4_clears_28 : decode cX4_clears 28 = .ok (.iastore, 1) := dk_79 (dk_at dksX4_clears_1 4 rfl rfl)
theorem dX4_clears_29 : decode cX4_clears 29 = .ok (.aload_n 0, 1) := dk_42 (dk_at dksX4_clears_1 5 rfl rfl)
theorem dX4_clears_30 : decode cX4_clears 30 = .ok (.getfield 66, 3) := dk_180 0 66 (dk_at dksX4_clears_1 6 rfl rfl)
theorem dX4_clears_33 : decode cX4_clears 33 = .ok (.iconst 2, 1) := dk_5 (dk_at dksX4_clears_1 9 rfl rfl)
theorem dX4_clears_34 : decode cX4_clears 34 = .ok (.iload_n 1, 1) := dk_27 (dk_at dksX4_clears_1 10 rfl rfl)
theorem dX4_clears_35 : decode cX4_clears 35 = .ok (.imul, 1) := dk_104 (dk_at dksX4_clears_1 11 rfl rfl)
theorem dX4_clears_36 : decode cX4_clears 36 = .ok (.iconst 1, 1) := dk_4 (dk_at dksX4_clears_1 12 rfl rfl)
theorem dX4_clears_37 : decode cX4_clears 37 = .ok (.iadd, 1) := dk_96 (dk_at dksX4_clears_1 13 rfl rfl)
theorem dX4_clears_38 : decode cX4_clears 38 = .ok (.iconst 0, 1) := dk_3 (dk_at dksX4_clears_1 14 rfl rfl)
theorem dX4_clears_39 : decode cX4_clears 39 = .ok (.iastore, 1) := dk_79 (dk_at dksX4_clears_1 15 rfl rfl)
theorem dX4_clears_40 : decode cX4_clears 40 = .ok (.iload_n 2, 1) := dk_28 (dk_at dksX4_clears_1 16 rfl rfl)
theorem dX4_clears_41 : decode cX4_clears 41 = .ok (.ireturn, 1) := dk_172 (dk_at dksX4_clears_1 17 rfl rfl)
def dkwX4_run_5 : List UInt8 := [180, 0, 184, 29, 100, 133, 182, 0, 164, 42, 27, 182, 1, 12, 21, 4, 172]
abbrev dktX4_run_5 : List UInt8 := dkwX4_run_5 ++ []
def dkwX4_run_4 : List UInt8 := [181, 0, 11, 42, 21, 4, 28, 162, 0, 7, 4, 167, 0, 4, 3, 184, 0, 31, 133, 182, 0, 164, 42, 42]
abbrev dktX4_run_4 : List UInt8 := dkwX4_run_4 ++ dktX4_run_5
def dkwX4_run_3 : List UInt8 := [21, 4, 28, 162, 0, 19, 42, 27, 21, 4, 182, 1, 21, 153, 0, 9, 132, 4, 1, 167, 255, 237, 42, 3]
abbrev dktX4_run_3 : List UInt8 := dkwX4_run_3 ++ dktX4_run_4
def dkwX4_run_2 : List UInt8 := [180, 0, 28, 100, 172, 132, 2, 1, 42, 182, 1, 15, 167, 255, 222, 42, 180, 0, 184, 62, 3, 54, 4]
abbrev dktX4_run_2 : List UInt8 := dkwX4_run_2 ++ dktX4_run_3
def dkwX4_run_1 : List UInt8 := [42, 180, 0, 28, 42, 180, 0, 25, 162, 0, 29, 42, 28, 182, 1, 18, 154, 0, 11, 16, 235, 42]
abbrev dktX4_run_1 : List UInt8 := dkwX4_run_1 ++ dktX4_run_2
def dkwX4_run_0 : List UInt8 := [42, 3, 181, 0, 1, 42, 182, 0, 225, 27, 184, 0, 237, 154, 0, 5, 2, 172, 3, 61, 42, 182, 1, 15]
abbrev dktX4_run_0 : List UInt8 := dkwX4_run_0 ++ dktX4_run_1
theorem dksX4_run_0 : cX4_run.data.toList.drop 0 = dktX4_run_0 := by decide +kernel
theorem dksX4_run_1 : cX4_run.data.toList.drop 24 = dktX4_run_1 := dk_seg dksX4_run_0 24 rfl rfl
theorem dksX4_run_2 : cX4_run.data.toList.drop 46 = dktX4_run_2 := dk_seg dksX4_run_1 22 rfl rfl
theorem dksX4_run_3 : cX4_run.data.toList.drop 69 = dktX4_run_3 := dk_seg dksX4_run_2 23 rfl rfl
theorem dksX4_run_4 : cX4_run.data.toList.drop 93 = dktX4_run_4 := dk_seg dksX4_run_3 24 rfl rfl
theorem dksX4_run_5 : cX4_run.data.toList.drop 117 = dktX4_run_5 := dk_seg dksX4_run_4 24 rfl rfl
theorem dX4_run_0 : decode cX4_run 0 = .ok (.aload_n 0, 1) := dk_42 (dk_at dksX4_run_0 0 rfl rfl)
theorem dX4_run_1 : decode cX4_run 1 = .ok (.iconst 0, 1) := dk_3 (dk_at dksX4_run_0 1 rfl rfl)
theorem dX4_run_2 : decode cX4_run 2 = .ok (.putfield 1, 3) := dk_181 0 1 (dk_at dksX4_run_0 2 rfl rfl)
theorem dX4_run_5 : decode cX4_run 5 = .ok (.aload_n 0, 1) := dk_42 (dk_at dksX4_run_0 5 rfl rfl)
theorem dX4_run_6 : decode cX4_run 6 = .ok (.invokevirtual 225, 3) := dk_182 0 225 (dk_at dksX4_run_0 6 rfl rfl)
theorem dX4_run_9 : decode cX4_run 9 = .ok (.iload_n 1, 1) := dk_27 (dk_at dksX4_run_0 9 rfl rfl)
theorem dX4_run_10 : decode cX4_run 10 = .ok (.invokestatic 237, 3) := dk_184 0 237 (dk_at dksX4_run_0 10 rfl rfl)
theorem dX4_run_13 : decode cX4_run 13 = .ok (.ifCond .ne 5, 3) := dk_154 0 5 (dk_at dksX4_run_0 13 rfl rfl)
theorem dX4_run_16 : decode cX4_run 16 = .ok (.iconst (-1), 1) := dk_2 (dk_at dksX4_run_0 16 rfl rfl)
theorem dX4_run_17 : decode cX4_run 17 = .ok (.ireturn, 1) := dk_172 (dk_at dksX4_run_0 17 rfl rfl)
theorem dX4_run_18 : decode cX4_run 18 = .ok (.iconst 0, 1) := dk_3 (dk_at dksX4_run_0 18 rfl rfl)
theorem dX4_run_19 : decode cX4_run 19 = .ok (.istore_n 2, 1) := dk_61 (dk_at dksX4_run_0 19 rfl rfl)
theorem dX4_run_20 : decode cX4_run 20 = .ok (.aload_n 0, 1) := dk_42 (dk_at dksX4_run_0 20 rfl rfl)
theorem dX4_run_21 : decode cX4_run 21 = .ok (.invokevirtual 271, 3) := dk_182 1 15 (dk_at dksX4_run_0 21 rfl rfl)
theorem dX4_run_24 : decode cX4_run 24 = .ok (.aload_n 0, 1) := dk_42 (dk_at dksX4_run_1 0 rfl rfl)
theorem dX4_run_25 : decode cX4_run 25 = .ok (.getfield 28, 3) := dk_180 0 28 (dk_at dksX4_run_1 1 rfl rfl)
theorem dX4_run_28 : decode cX4_run 28 = .ok (.aload_n 0, 1) := dk_42 (dk_at dksX4_run_1 4 rfl rfl)
theorem dX4_run_29 : decode cX4_run 29 = .ok (.getfield 25, 3) := dk_180 0 25 (dk_at dksX4_run_1 5 rfl rfl)
theorem dX4_run_32 : decode cX4_run 32 = .ok (.if_icmp .ge 29, 3) := dk_162 0 29 (dk_at dksX4_run_1 8 rfl rfl)
theorem dX4_run_35 : decode cX4_run 35 = .ok (.aload_n 0, 1) := dk_42 (dk_at dksX4_run_1 11 rfl rfl)
theorem dX4_run_36 : decode cX4_run 36 = .ok (.iload_n 2, 1) := dk_28 (dk_at dksX4_run_1 12 rfl rfl)
theorem dX4_run_37 : decode cX4_run 37 = .ok (.invokevirtual 274, 3) := dk_182 1 18 (dk_at dksX4_run_1 13 rfl rfl)
theorem dX4_run_40 : decode cX4_run 40 = .ok (.ifCond .ne 11, 3) := dk_154 0 11 (dk_at dksX4_run_1 16 rfl rfl)
theorem dX4_run_43 : decode cX4_run 43 = .ok (.bipush (-21), 2) := dk_16 235 (dk_at dksX4_run_1 19 rfl rfl)
theorem dX4_run_45 : decode cX4_run 45 = .ok (.aload_n 0, 1) := dk_42 (dk_at dksX4_run_1 21 rfl rfl)
theorem dX4_run_46 : decode cX4_run 46 = .ok (.getfield 28, 3) := dk_180 0 28 (dk_at dksX4_run_2 0 rfl rfl)
theorem dX4_run_49 : decode cX4_run 49 = .ok (.isub, 1) := dk_100 (dk_at dksX4_run_2 3 rfl rfl)
theorem dX4_run_50 : decode cX4_run 50 = .ok (.ireturn, 1) := dk_172 (dk_at dksX4_run_2 4 rfl rfl)
theorem dX4_run_51 : decode cX4_run 51 = .ok (.iinc 2 1, 3) := dk_132 2 1 (dk_at dksX4_run_2 5 rfl rfl)
theorem dX4_run_54 : decode cX4_run 54 = .ok (.aload_n 0, 1) := dk_42 (dk_at dksX4_run_2 8 rfl rfl)
theorem dX4_run_55 : decode cX4_run 55 = .ok (.invokevirtual 271, 3) := dk_182 1 15 (dk_at dksX4_run_2 9 rfl rfl)
theorem dX4_run_58 : decode cX4_run 58 = .ok (.goto (-34), 3) := dk_167 255 222 (dk_at dksX4_run_2 12 rfl rfl)
theorem dX4_run_61 : decode cX4_run 61 = .ok (.aload_n 0, 1) := dk_42 (dk_at dksX4_run_2 15 rfl rfl)
theorem dX4_run_62 : decode cX4_run 62 = .ok (.getfield 184, 3) := dk_180 0 184 (dk_at dksX4_run_2 16 rfl rfl)
theorem dX4_run_65 : decode cX4_run 65 = .ok (.istore_n 3, 1) := dk_62 (dk_at dksX4_run_2 19 rfl rfl)
theorem dX4_run_66 : decode cX4_run 66 = .ok (.iconst 0, 1) := dk_3 (dk_at dksX4_run_2 20 rfl rfl)
theorem dX4_run_67 : decode cX4_run 67 = .ok (.istore 4, 2) := dk_54 4 (dk_at dksX4_run_2 21 rfl rfl)
theorem dX4_run_69 : decode cX4_run 69 = .ok (.iload 4, 2) := dk_21 4 (dk_at dksX4_run_3 0 rfl rfl)
theorem dX4_run_71 : decode cX4_run 71 = .ok (.iload_n 2, 1) := dk_28 (dk_at dksX4_run_3 2 rfl rfl)
theorem dX4_run_72 : decode cX4_run 72 = .ok (.if_icmp .ge 19, 3) := dk_162 0 19 (dk_at dksX4_run_3 3 rfl rfl)
theorem dX4_run_75 : decode cX4_run 75 = .ok (.aload_n 0, 1) := dk_42 (dk_at dksX4_run_3 6 rfl rfl)
theorem dX4_run_76 : decode cX4_run 76 = .ok (.iload_n 1, 1) := dk_27 (dk_at dksX4_run_3 7 rfl rfl)
theorem dX4_run_77 : decode cX4_run 77 = .ok (.iload 4, 2) := dk_21 4 (dk_at dksX4_run_3 8 rfl rfl)
theorem dX4_run_79 : decode cX4_run 79 = .ok (.invokevirtual 277, 3) := dk_182 1 21 (dk_at dksX4_run_3 10 rfl rfl)
theorem dX4_run_82 : decode cX4_run 82 = .ok (.ifCond .eq 9, 3) := dk_153 0 9 (dk_at dksX4_run_3 13 rfl rfl)
theorem dX4_run_85 : decode cX4_run 85 = .ok (.iinc 4 1, 3) := dk_132 4 1 (dk_at dksX4_run_3 16 rfl rfl)
theorem dX4_run_88 : decode cX4_run 88 = .ok (.goto (-19), 3) := dk_167 255 237 (dk_at dksX4_run_3 19 rfl rfl)
theorem dX4_run_91 : decode cX4_run 91 = .ok (.aload_n 0, 1) := dk_42 (dk_at dksX4_run_3 22 rfl rfl)
theorem dX4_run_92 : decode cX4_run 92 = .ok (.iconst 0, 1) := dk_3 (dk_at dksX4_run_3 23 rfl rfl)
theorem dX4_run_93 : decode cX4_run 93 = .ok (.putfield 11, 3) := dk_181 0 11 (dk_at dksX4_run_4 0 rfl rfl)
theorem dX4_run_96 : decode cX4_run 96 = .ok (.aload_n 0, 1) := dk_42 (dk_at dksX4_run_4 3 rfl rfl)
theorem dX4_run_97 : decode cX4_run 97 = .ok (.iload 4, 2) := dk_21 4 (dk_at dksX4_run_4 4 rfl rfl)
theorem dX4_run_99 : decode cX4_run 99 = .ok (.iload_n 2, 1) := dk_28 (dk_at dksX4_run_4 6 rfl rfl)
theorem dX4_run_100 : decode cX4_run 100 = .ok (.if_icmp .ge 7, 3) := dk_162 0 7 (dk_at dksX4_run_4 7 rfl rfl)
theorem dX4_run_103 : decode cX4_run 103 = .ok (.iconst 1, 1) := dk_4 (dk_at dksX4_run_4 10 rfl rfl)
theorem dX4_run_104 : decode cX4_run 104 = .ok (.goto 4, 3) := dk_167 0 4 (dk_at dksX4_run_4 11 rfl rfl)
theorem dX4_run_107 : decode cX4_run 107 = .ok (.iconst 0, 1) := dk_3 (dk_at dksX4_run_4 14 rfl rfl)
theorem dX4_run_108 : decode cX4_run 108 = .ok (.invokestatic 31, 3) := dk_184 0 31 (dk_at dksX4_run_4 15 rfl rfl)
theorem dX4_run_111 : decode cX4_run 111 = .ok (.i2l, 1) := dk_133 (dk_at dksX4_run_4 18 rfl rfl)
theorem dX4_run_112 : decode cX4_run 112 = .ok (.invokevirtual 164, 3) := dk_182 0 164 (dk_at dksX4_run_4 19 rfl rfl)
theorem dX4_run_115 : decode cX4_run 115 = .ok (.aload_n 0, 1) := dk_42 (dk_at dksX4_run_4 22 rfl rfl)
theorem dX4_run_116 : decode cX4_run 116 = .ok (.aload_n 0, 1) := dk_42 (dk_at dksX4_run_4 23 rfl rfl)
theorem dX4_run_117 : decode cX4_run 117 = .ok (.getfield 184, 3) := dk_180 0 184 (dk_at dksX4_run_5 0 rfl rfl)
theorem dX4_run_120 : decode cX4_run 120 = .ok (.iload_n 3, 1) := dk_29 (dk_at dksX4_run_5 3 rfl rfl)
theorem dX4_run_121 : decode cX4_run 121 = .ok (.isub, 1) := dk_100 (dk_at dksX4_run_5 4 rfl rfl)
theorem dX4_run_122 : decode cX4_run 122 = .ok (.i2l, 1) := dk_133 (dk_at dksX4_run_5 5 rfl rfl)
theorem dX4_run_123 : decode cX4_run 123 = .ok (.invokevirtual 164, 3) := dk_182 0 164 (dk_at dksX4_run_5 6 rfl rfl)
theorem dX4_run_126 : decode cX4_run 126 = .ok (.aload_n 0, 1) := dk_42 (dk_at dksX4_run_5 9 rfl rfl)
theorem dX4_run_127 : decode cX4_run 127 = .ok (.iload_n 1, 1) := dk_27 (dk_at dksX4_run_5 10 rfl rfl)
theorem dX4_run_128 : decode cX4_run 128 = .ok (.invokevirtual 268, 3) := dk_182 1 12 (dk_at dksX4_run_5 11 rfl rfl)
theorem dX4_run_131 : decode cX4_run 131 = .ok (.iload 4, 2) := dk_21 4 (dk_at dksX4_run_5 14 rfl rfl)
theorem dX4_run_133 : decode cX4_run 133 = .ok (.ireturn, 1) := dk_172 (dk_at dksX4_run_5 16 rfl rfl)
def dkwX4_passes_1 : List UInt8 := [160, 0, 16, 42, 89, 180, 0, 28, 4, 96, 181, 0, 28, 167, 255, 221, 177]
abbrev dktX4_passes_1 : List UInt8 := dkwX4_passes_1 ++ []
def dkwX4_passes_0 : List UInt8 := [42, 180, 0, 28, 42, 180, 0, 25, 162, 0, 30, 42, 180, 0, 17, 42, 180, 0, 28, 46, 16, 32]
abbrev dktX4_passes_0 : List UInt8 := dkwX4_passes_0 ++ dktX4_passes_1
theorem dksX4_passes_0 : cX4_passes.data.toList.drop 0 = dktX4_passes_0 := by decide +kernel
theorem dksX4_passes_1 : cX4_passes.data.toList.drop 22 = dktX4_passes_1 := dk_seg dksX4_passes_0 22 rfl rfl
theorem dX4_passes_0 : decode cX4_passes 0 = .ok (.aload_n 0, 1) := dk_42 (dk_at dksX4_passes_0 0 rfl rfl)
theorem dX4_passes_1 : decode cX4_passes 1 = .ok (.getfield 28, 3) := dk_180 0 28 (dk_at dksX4_passes_0 1 rfl rfl)
theorem dX4_passes_4 : decode cX4_passes 4 = .ok (.aload_n 0, 1) := dk_42 (dk_at dksX4_passes_0 4 rfl rfl)
theorem dX4_passes_5 : decode cX4_passes 5 = .ok (.getfield 25, 3) := dk_180 0 25 (dk_at dksX4_passes_0 5 rfl rfl)
theorem dX4_passes_8 : decode cX4_passes 8 = .ok (.if_icmp .ge 30, 3) := dk_162 0 30 (dk_at dksX4_passes_0 8 rfl rfl)
theorem dX4_passes_11 : decode cX4_passes 11 = .ok (.aload_n 0, 1) := dk_42 (dk_at dksX4_passes_0 11 rfl rfl)
theorem dX4_passes_12 : decode cX4_passes 12 = .ok (.getfield 17, 3) := dk_180 0 17 (dk_at dksX4_passes_0 12 rfl rfl)
theorem dX4_passes_15 : decode cX4_passes 15 = .ok (.aload_n 0, 1) := dk_42 (dk_at dksX4_passes_0 15 rfl rfl)
theorem dX4_passes_16 : decode cX4_passes 16 = .ok (.getfield 28, 3) := dk_180 0 28 (dk_at dksX4_passes_0 16 rfl rfl)
theorem dX4_passes_19 : decode cX4_passes 19 = .ok (.iaload, 1) := dk_46 (dk_at dksX4_passes_0 19 rfl rfl)
theorem dX4_passes_20 : decode cX4_passes 20 = .ok (.bipush 32, 2) := dk_16 32 (dk_at dksX4_passes_0 20 rfl rfl)
theorem dX4_passes_22 : decode cX4_passes 22 = .ok (.if_icmp .ne 16, 3) := dk_160 0 16 (dk_at dksX4_passes_1 0 rfl rfl)
theorem dX4_passes_25 : decode cX4_passes 25 = .ok (.aload_n 0, 1) := dk_42 (dk_at dksX4_passes_1 3 rfl rfl)
theorem dX4_passes_26 : decode cX4_passes 26 = .ok (.dup, 1) := dk_89 (dk_at dksX4_passes_1 4 rfl rfl)
theorem dX4_passes_27 : decode cX4_passes 27 = .ok (.getfield 28, 3) := dk_180 0 28 (dk_at dksX4_passes_1 5 rfl rfl)
theorem dX4_passes_30 : decode cX4_passes 30 = .ok (.iconst 1, 1) := dk_4 (dk_at dksX4_passes_1 8 rfl rfl)
theorem dX4_passes_31 : decode cX4_passes 31 = .ok (.iadd, 1) := dk_96 (dk_at dksX4_passes_1 9 rfl rfl)
theorem dX4_passes_32 : decode cX4_passes 32 = .ok (.putfield 28, 3) := dk_181 0 28 (dk_at dksX4_passes_1 10 rfl rfl)
theorem dX4_passes_35 : decode cX4_passes 35 = .ok (.goto (-35), 3) := dk_167 255 221 (dk_at dksX4_passes_1 13 rfl rfl)
theorem dX4_passes_38 : decode cX4_passes 38 = .ok (.return_, 1) := dk_177 (dk_at dksX4_passes_1 16 rfl rfl)
def dkwX4_readsAct_6 : List UInt8 := [158, 0, 14, 42, 182, 0, 218, 154, 0, 7, 4, 167, 0, 4, 3, 172]
abbrev dktX4_readsAct_6 : List UInt8 := dkwX4_readsAct_6 ++ []
def dkwX4_readsAct_5 : List UInt8 := [180, 0, 28, 4, 96, 181, 0, 28, 132, 5, 1, 167, 255, 210, 42, 180, 0, 90, 27, 21, 4, 79, 21, 5]
abbrev dktX4_readsAct_5 : List UInt8 := dkwX4_readsAct_5 ++ dktX4_readsAct_6
def dkwX4_readsAct_4 : List UInt8 := [16, 10, 21, 4, 104, 42, 180, 0, 17, 42, 180, 0, 28, 46, 96, 16, 48, 100, 54, 4, 42, 89]
abbrev dktX4_readsAct_4 : List UInt8 := dkwX4_readsAct_4 ++ dktX4_readsAct_5
def dkwX4_readsAct_3 : List UInt8 := [154, 0, 5, 4, 172, 3, 54, 4, 3, 54, 5, 42, 182, 0, 218, 153, 0, 45, 21, 5, 7, 162, 0, 39]
abbrev dktX4_readsAct_3 : List UInt8 := dkwX4_readsAct_3 ++ dktX4_readsAct_4
def dkwX4_readsAct_2 : List UInt8 := [159, 0, 5, 3, 172, 42, 89, 180, 0, 28, 4, 96, 181, 0, 28, 42, 180, 0, 87, 27, 28, 79, 29]
abbrev dktX4_readsAct_2 : List UInt8 := dkwX4_readsAct_2 ++ dktX4_readsAct_3
def dkwX4_readsAct_1 : List UInt8 := [167, 0, 4, 3, 62, 29, 154, 0, 23, 28, 16, 70, 159, 0, 17, 28, 16, 66, 159, 0, 11, 28, 16, 114]
abbrev dktX4_readsAct_1 : List UInt8 := dkwX4_readsAct_1 ++ dktX4_readsAct_2
def dkwX4_readsAct_0 : List UInt8 := [42, 180, 0, 17, 42, 180, 0, 28, 46, 61, 28, 16, 102, 159, 0, 9, 28, 16, 98, 160, 0, 7, 4]
abbrev dktX4_readsAct_0 : List UInt8 := dkwX4_readsAct_0 ++ dktX4_readsAct_1
theorem dksX4_readsAct_0 : cX4_readsAct.data.toList.drop 0 = dktX4_readsAct_0 := by decide +kernel
theorem dksX4_readsAct_1 : cX4_readsAct.data.toList.drop 23 = dktX4_readsAct_1 := dk_seg dksX4_readsAct_0 23 rfl rfl
theorem dksX4_readsAct_2 : cX4_readsAct.data.toList.drop 47 = dktX4_readsAct_2 := dk_seg dksX4_readsAct_1 24 rfl rfl
theorem dksX4_readsAct_3 : cX4_readsAct.data.toList.drop 70 = dktX4_readsAct_3 := dk_seg dksX4_readsAct_2 23 rfl rfl
theorem dksX4_readsAct_4 : cX4_readsAct.data.toList.drop 94 = dktX4_readsAct_4 := dk_seg dksX4_readsAct_3 24 rfl rfl
theorem dksX4_readsAct_5 : cX4_readsAct.data.toList.drop 116 = dktX4_readsAct_5 := dk_seg dksX4_readsAct_4 22 rfl rfl
theorem dksX4_readsAct_6 : cX4_readsAct.data.toList.drop 140 = dktX4_readsAct_6 := dk_seg dksX4_readsAct_5 24 rfl rfl
theorem dX4_readsAct_0 : decode cX4_readsAct 0 = .ok (.aload_n 0, 1) := dk_42 (dk_at dksX4_readsAct_0 0 rfl rfl)
theorem dX4_readsAct_1 : decode cX4_readsAct 1 = .ok (.getfield 17, 3) := dk_180 0 17 (dk_at dksX4_readsAct_0 1 rfl rfl)
theorem dX4_readsAct_4 : decode cX4_readsAct 4 = .ok (.aload_n 0, 1) := dk_42 (dk_at dksX4_readsAct_0 4 rfl rfl)
theorem dX4_readsAct_5 : decode cX4_readsAct 5 = .ok (.getfield 28, 3) := dk_180 0 28 (dk_at dksX4_readsAct_0 5 rfl rfl)
theorem dX4_readsAct_8 : decode cX4_readsAct 8 = .ok (.iaload, 1) := dk_46 (dk_at dksX4_readsAct_0 8 rfl rfl)
theorem dX4_readsAct_9 : decode cX4_readsAct 9 = .ok (.istore_n 2, 1) := dk_61 (dk_at dksX4_readsAct_0 9 rfl rfl)
theorem dX4_readsAct_10 : decode cX4_readsAct 10 = .ok (.iload_n 2, 1) := dk_28 (dk_at dksX4_readsAct_0 10 rfl rfl)
theorem dX4_readsAct_11 : decode cX4_readsAct 11 = .ok (.bipush 102, 2) := dk_16 102 (dk_at dksX4_readsAct_0 11 rfl rfl)
theorem dX4_readsAct_13 : decode cX4_readsAct 13 = .ok (.if_icmp .eq 9, 3) := dk_159 0 9 (dk_at dksX4_readsAct_0 13 rfl rfl)
theorem dX4_readsAct_16 : decode cX4_readsAct 16 = .ok (.iload_n 2, 1) := dk_28 (dk_at dksX4_readsAct_0 16 rfl rfl)
theorem dX4_readsAct_17 : decode cX4_readsAct 17 = .ok (.bipush 98, 2) := dk_16 98 (dk_at dksX4_readsAct_0 17 rfl rfl)
theorem dX4_readsAct_19 : decode cX4_readsAct 19 = .ok (.if_icmp .ne 7, 3) := dk_160 0 7 (dk_at dksX4_readsAct_0 19 rfl rfl)
theorem dX4_readsAct_22 : decode cX4_readsAct 22 = .ok (.iconst 1, 1) := dk_4 (dk_at dksX4_readsAct_0 22 rfl rfl)
theorem dX4_readsAct_23 : decode cX4_readsAct 23 = .ok (.goto 4, 3) := dk_167 0 4 (dk_at dksX4_readsAct_1 0 rfl rfl)
theorem dX4_readsAct_26 : decode cX4_readsAct 26 = .ok (.iconst 0, 1) := dk_3 (dk_at dksX4_readsAct_1 3 rfl rfl)
theorem dX4_readsAct_27 : decode cX4_readsAct 27 = .ok (.istore_n 3, 1) := dk_62 (dk_at dksX4_readsAct_1 4 rfl rfl)
theorem dX4_readsAct_28 : decode cX4_readsAct 28 = .ok (.iload_n 3, 1) := dk_29 (dk_at dksX4_readsAct_1 5 rfl rfl)
theorem dX4_readsAct_29 : decode cX4_readsAct 29 = .ok (.ifCond .ne 23, 3) := dk_154 0 23 (dk_at dksX4_readsAct_1 6 rfl rfl)
theorem dX4_readsAct_32 : decode cX4_readsAct 32 = .ok (.iload_n 2, 1) := dk_28 (dk_at dksX4_readsAct_1 9 rfl rfl)
theorem dX4_readsAct_33 : decode cX4_readsAct 33 = .ok (.bipush 70, 2) := dk_16 70 (dk_at dksX4_readsAct_1 10 rfl rfl)
theorem dX4_readsAct_35 : decode cX4_readsAct 35 = .ok (.if_icmp .eq 17, 3) := dk_159 0 17 (dk_at dksX4_readsAct_1 12 rfl rfl)
theorem dX4_readsAct_38 : decode cX4_readsAct 38 = .ok (.iload_n 2, 1) := dk_28 (dk_at dksX4_readsAct_1 15 rfl rfl)
theorem dX4_readsAct_39 : decode cX4_readsAct 39 = .ok (.bipush 66, 2) := dk_16 66 (dk_at dksX4_readsAct_1 16 rfl rfl)
theorem dX4_readsAct_41 : decode cX4_readsAct 41 = .ok (.if_icmp .eq 11, 3) := dk_159 0 11 (dk_at dksX4_readsAct_1 18 rfl rfl)
theorem dX4_readsAct_44 : decode cX4_readsAct 44 = .ok (.iload_n 2, 1) := dk_28 (dk_at dksX4_readsAct_1 21 rfl rfl)
theorem dX4_readsAct_45 : decode cX4_readsAct 45 = .ok (.bipush 114, 2) := dk_16 114 (dk_at dksX4_readsAct_1 22 rfl rfl)
theorem dX4_readsAct_47 : decode cX4_readsAct 47 = .ok (.if_icmp .eq 5, 3) := dk_159 0 5 (dk_at dksX4_readsAct_2 0 rfl rfl)
theorem dX4_readsAct_50 : decode cX4_readsAct 50 = .ok (.iconst 0, 1) := dk_3 (dk_at dksX4_readsAct_2 3 rfl rfl)
theorem dX4_readsAct_51 : decode cX4_readsAct 51 = .ok (.ireturn, 1) := dk_172 (dk_at dksX4_readsAct_2 4 rfl rfl)
theorem dX4_readsAct_52 : decode cX4_readsAct 52 = .ok (.aload_n 0, 1) := dk_42 (dk_at dksX4_readsAct_2 5 rfl rfl)
theorem dX4_readsAct_53 : decode cX4_readsAct 53 = .ok (.dup, 1) := dk_89 (dk_at dksX4_readsAct_2 6 rfl rfl)
theorem dX4_readsAct_54 : decode cX4_readsAct 54 = .ok (.getfield 28, 3) := dk_180 0 28 (dk_at dksX4_readsAct_2 7 rfl rfl)
theorem dX4_readsAct_57 : decode cX4_readsAct 57 = .ok (.iconst 1, 1) := dk_4 (dk_at dksX4_readsAct_2 10 rfl rfl)
theorem dX4_readsAct_58 : decode cX4_readsAct 58 = .ok (.iadd, 1) := dk_96 (dk_at dksX4_readsAct_2 11 rfl rfl)
theorem dX4_readsAct_59 : decode cX4_readsAct 59 = .ok (.putfield 28, 3) := dk_181 0 28 (dk_at dksX4_readsAct_2 12 rfl rfl)
theorem dX4_readsAct_62 : decode cX4_readsAct 62 = .ok (.aload_n 0, 1) := dk_42 (dk_at dksX4_readsAct_2 15 rfl rfl)
theorem dX4_readsAct_63 : decode cX4_readsAct 63 = .ok (.getfield 87, 3) := dk_180 0 87 (dk_at dksX4_readsAct_2 16 rfl rfl)
theorem dX4_readsAct_66 : decode cX4_readsAct 66 = .ok (.iload_n 1, 1) := dk_27 (dk_at dksX4_readsAct_2 19 rfl rfl)
theorem dX4_readsAct_67 : decode cX4_readsAct 67 = .ok (.iload_n 2, 1) := dk_28 (dk_at dksX4_readsAct_2 20 rfl rfl)
theorem dX4_readsAct_68 : decode cX4_readsAct 68 = .ok (.iastore, 1) := dk_79 (dk_at dksX4_readsAct_2 21 rfl rfl)
theorem dX4_readsAct_69 : decode cX4_readsAct 69 = .ok (.iload_n 3, 1) := dk_29 (dk_at dksX4_readsAct_2 22 rfl rfl)
theorem dX4_readsAct_70 : decode cX4_readsAct 70 = .ok (.ifCond .ne 5, 3) := dk_154 0 5 (dk_at dksX4_readsAct_3 0 rfl rfl)
theorem dX4_readsAct_73 : decode cX4_readsAct 73 = .ok (.iconst 1, 1) := dk_4 (dk_at dksX4_readsAct_3 3 rfl rfl)
theorem dX4_readsAct_74 : decode cX4_readsAct 74 = .ok (.ireturn, 1) := dk_172 (dk_at dksX4_readsAct_3 4 rfl rfl)
theorem dX4_readsAct_75 : decode cX4_readsAct 75 = .ok (.iconst 0, 1) := dk_3 (dk_at dksX4_readsAct_3 5 rfl rfl)
theorem dX4_readsAct_76 : decode cX4_readsAct 76 = .ok (.istore 4, 2) := dk_54 4 (dk_at dksX4_readsAct_3 6 rfl rfl)
theorem dX4_readsAct_78 : decode cX4_readsAct 78 = .ok (.iconst 0, 1) := dk_3 (dk_at dksX4_readsAct_3 8 rfl rfl)
theorem dX4_readsAct_79 : decode cX4_readsAct 79 = .ok (.istore 5, 2) := dk_54 5 (dk_at dksX4_readsAct_3 9 rfl rfl)
theorem dX4_readsAct_81 : decode cX4_readsAct 81 = .ok (.aload_n 0, 1) := dk_42 (dk_at dksX4_readsAct_3 11 rfl rfl)
theorem dX4_readsAct_82 : decode cX4_readsAct 82 = .ok (.invokevirtual 218, 3) := dk_182 0 218 (dk_at dksX4_readsAct_3 12 rfl rfl)
theorem dX4_readsAct_85 : decode cX4_readsAct 85 = .ok (.ifCond .eq 45, 3) := dk_153 0 45 (dk_at dksX4_readsAct_3 15 rfl rfl)
theorem dX4_readsAct_88 : decode cX4_readsAct 88 = .ok (.iload 5, 2) := dk_21 5 (dk_at dksX4_readsAct_3 18 rfl rfl)
theorem dX4_readsAct_90 : decode cX4_readsAct 90 = .ok (.iconst 4, 1) := dk_7 (dk_at dksX4_readsAct_3 20 rfl rfl)
theorem dX4_readsAct_91 : decode cX4_readsAct 91 = .ok (.if_icmp .ge 39, 3) := dk_162 0 39 (dk_at dksX4_readsAct_3 21 rfl rfl)
theorem dX4_readsAct_94 : decode cX4_readsAct 94 = .ok (.bipush 10, 2) := dk_16 10 (dk_at dksX4_readsAct_4 0 rfl rfl)
theorem dX4_readsAct_96 : decode cX4_readsAct 96 = .ok (.iload 4, 2) := dk_21 4 (dk_at dksX4_readsAct_4 2 rfl rfl)
theorem dX4_readsAct_98 : decode cX4_readsAct 98 = .ok (.imul, 1) := dk_104 (dk_at dksX4_readsAct_4 4 rfl rfl)
theorem dX4_readsAct_99 : decode cX4_readsAct 99 = .ok (.aload_n 0, 1) := dk_42 (dk_at dksX4_readsAct_4 5 rfl rfl)
theorem dX4_readsAct_100 : decode cX4_readsAct 100 = .ok (.getfield 17, 3) := dk_180 0 17 (dk_at dksX4_readsAct_4 6 rfl rfl)
theorem dX4_readsAct_103 : decode cX4_readsAct 103 = .ok (.aload_n 0, 1) := dk_42 (dk_at dksX4_readsAct_4 9 rfl rfl)
theorem dX4_readsAct_104 : decode cX4_readsAct 104 = .ok (.getfield 28, 3) := dk_180 0 28 (dk_at dksX4_readsAct_4 10 rfl rfl)
theorem dX4_readsAct_107 : decode cX4_readsAct 107 = .ok (.iaload, 1) := dk_46 (dk_at dksX4_readsAct_4 13 rfl rfl)
theorem dX4_readsAct_108 : decode cX4_readsAct 108 = .ok (.iadd, 1) := dk_96 (dk_at dksX4_readsAct_4 14 rfl rfl)
theorem dX4_readsAct_109 : decode cX4_readsAct 109 = .ok (.bipush 48, 2) := dk_16 48 (dk_at dksX4_readsAct_4 15 rfl rfl)
theorem dX4_readsAct_111 : decode cX4_readsAct 111 = .ok (.isub, 1) := dk_100 (dk_at dksX4_readsAct_4 17 rfl rfl)
theorem dX4_readsAct_112 : decode cX4_readsAct 112 = .ok (.istore 4, 2) := dk_54 4 (dk_at dksX4_readsAct_4 18 rfl rfl)
theorem dX4_readsAct_114 : decode cX4_readsAct 114 = .ok (.aload_n 0, 1) := dk_42 (dk_at dksX4_readsAct_4 20 rfl rfl)
theorem dX4_readsAct_115 : decode cX4_readsAct 115 = .ok (.dup, 1) := dk_89 (dk_at dksX4_readsAct_4 21 rfl rfl)
theorem dX4_readsAct_116 : decode cX4_readsAct 116 = .ok (.getfield 28, 3) := dk_180 0 28 (dk_at dksX4_readsAct_5 0 rfl rfl)
theorem dX4_readsAct_119 : decode cX4_readsAct 119 = .ok (.iconst 1, 1) := dk_4 (dk_at dksX4_readsAct_5 3 rfl rfl)
theorem dX4_readsAct_120 : decode cX4_readsAct 120 = .ok (.iadd, 1) := dk_96 (dk_at dksX4_readsAct_5 4 rfl rfl)
theorem dX4_readsAct_121 : decode cX4_readsAct 121 = .ok (.putfield 28, 3) := dk_181 0 28 (dk_at dksX4_readsAct_5 5 rfl rfl)
theorem dX4_readsAct_124 : decode cX4_readsAct 124 = .ok (.iinc 5 1, 3) := dk_132 5 1 (dk_at dksX4_readsAct_5 8 rfl rfl)
theorem dX4_readsAct_127 : decode cX4_readsAct 127 = .ok (.goto (-46), 3) := dk_167 255 210 (dk_at dksX4_readsAct_5 11 rfl rfl)
theorem dX4_readsAct_130 : decode cX4_readsAct 130 = .ok (.aload_n 0, 1) := dk_42 (dk_at dksX4_readsAct_5 14 rfl rfl)
theorem dX4_readsAct_131 : decode cX4_readsAct 131 = .ok (.getfield 90, 3) := dk_180 0 90 (dk_at dksX4_readsAct_5 15 rfl rfl)
theorem dX4_readsAct_134 : decode cX4_readsAct 134 = .ok (.iload_n 1, 1) := dk_27 (dk_at dksX4_readsAct_5 18 rfl rfl)
theorem dX4_readsAct_135 : decode cX4_readsAct 135 = .ok (.iload 4, 2) := dk_21 4 (dk_at dksX4_readsAct_5 19 rfl rfl)
theorem dX4_readsAct_137 : decode cX4_readsAct 137 = .ok (.iastore, 1) := dk_79 (dk_at dksX4_readsAct_5 21 rfl rfl)
theorem dX4_readsAct_138 : decode cX4_readsAct 138 = .ok (.iload 5, 2) := dk_21 5 (dk_at dksX4_readsAct_5 22 rfl rfl)
theorem dX4_readsAct_140 : decode cX4_readsAct 140 = .ok (.ifCond .le 14, 3) := dk_158 0 14 (dk_at dksX4_readsAct_6 0 rfl rfl)
theorem dX4_readsAct_143 : decode cX4_readsAct 143 = .ok (.aload_n 0, 1) := dk_42 (dk_at dksX4_readsAct_6 3 rfl rfl)
theorem dX4_readsAct_144 : decode cX4_readsAct 144 = .ok (.invokevirtual 218, 3) := dk_182 0 218 (dk_at dksX4_readsAct_6 4 rfl rfl)
theorem dX4_readsAct_147 : decode cX4_readsAct 147 = .ok (.ifCond .ne 7, 3) := dk_154 0 7 (dk_at dksX4_readsAct_6 7 rfl rfl)
theorem dX4_readsAct_150 : decode cX4_readsAct 150 = .ok (.iconst 1, 1) := dk_4 (dk_at dksX4_readsAct_6 10 rfl rfl)
theorem dX4_readsAct_151 : decode cX4_readsAct 151 = .ok (.goto 4, 3) := dk_167 0 4 (dk_at dksX4_readsAct_6 11 rfl rfl)
theorem dX4_readsAct_154 : decode cX4_readsAct 154 = .ok (.iconst 0, 1) := dk_3 (dk_at dksX4_readsAct_6 14 rfl rfl)
theorem dX4_readsAct_155 : decode cX4_readsAct 155 = .ok (.ireturn, 1) := dk_172 (dk_at dksX4_readsAct_6 15 rfl rfl)
def dkwX4_does_6 : List UInt8 := [4, 167, 0, 4, 3, 172]
abbrev dktX4_does_6 : List UInt8 := dkwX4_does_6 ++ []
def dkwX4_does_5 : List UInt8 := [180, 0, 87, 28, 46, 16, 66, 160, 0, 7, 4, 167, 0, 4, 3, 184, 0, 31, 182, 0, 243, 155, 0, 7]
abbrev dktX4_does_5 : List UInt8 := dkwX4_does_5 ++ dktX4_does_6
def dkwX4_does_4 : List UInt8 := [27, 182, 0, 252, 155, 0, 7, 4, 167, 0, 4, 3, 172, 42, 27, 182, 0, 187, 158, 0, 34, 42, 27, 42]
abbrev dktX4_does_4 : List UInt8 := dkwX4_does_4 ++ dktX4_does_5
def dkwX4_does_3 : List UInt8 := [160, 0, 7, 4, 167, 0, 4, 3, 184, 0, 31, 96, 42, 180, 0, 90, 28, 46, 182, 0, 193, 4, 172, 42]
abbrev dktX4_does_3 : List UInt8 := dkwX4_does_3 ++ dktX4_does_4
def dkwX4_does_2 : List UInt8 := [42, 27, 182, 0, 187, 16, 64, 160, 0, 5, 3, 172, 42, 5, 27, 104, 42, 180, 0, 87, 28, 46, 16, 98]
abbrev dktX4_does_2 : List UInt8 := dkwX4_does_2 ++ dktX4_does_3
def dkwX4_does_1 : List UInt8 := [171, 0, 0, 0, 0, 95, 0, 0, 0, 3, 0, 0, 0, 98, 0, 0, 0, 34, 0, 0, 0, 102, 0, 0, 0, 34, 0, 0, 0, 114, 0, 0, 0, 81]
abbrev dktX4_does_1 : List UInt8 := dkwX4_does_1 ++ dktX4_does_2
def dkwX4_does_0 : List UInt8 := [42, 180, 0, 87, 28, 46]
abbrev dktX4_does_0 : List UInt8 := dkwX4_does_0 ++ dktX4_does_1
theorem dksX4_does_0 : cX4_does.data.toList.drop 0 = dktX4_does_0 := by decide +kernel
theorem dksX4_does_1 : cX4_does.data.toList.drop 6 = dktX4_does_1 := dk_seg dksX4_does_0 6 rfl rfl
theorem dksX4_does_2 : cX4_does.data.toList.drop 40 = dktX4_does_2 := dk_seg dksX4_does_1 34 rfl rfl
theorem dksX4_does_3 : cX4_does.data.toList.drop 64 = dktX4_does_3 := dk_seg dksX4_does_2 24 rfl rfl
theorem dksX4_does_4 : cX4_does.data.toList.drop 88 = dktX4_does_4 := dk_seg dksX4_does_3 24 rfl rfl
theorem dksX4_does_5 : cX4_does.data.toList.drop 112 = dktX4_does_5 := dk_seg dksX4_does_4 24 rfl rfl
theorem dksX4_does_6 : cX4_does.data.toList.drop 136 = dktX4_does_6 := dk_seg dksX4_does_5 24 rfl rfl
theorem dX4_does_0 : decode cX4_does 0 = .ok (.aload_n 0, 1) := dk_42 (dk_at dksX4_does_0 0 rfl rfl)
theorem dX4_does_1 : decode cX4_does 1 = .ok (.getfield 87, 3) := dk_180 0 87 (dk_at dksX4_does_0 1 rfl rfl)
theorem dX4_does_4 : decode cX4_does 4 = .ok (.iload_n 2, 1) := dk_28 (dk_at dksX4_does_0 4 rfl rfl)
theorem dX4_does_5 : decode cX4_does 5 = .ok (.iaload, 1) := dk_46 (dk_at dksX4_does_0 5 rfl rfl)
theorem dX4_does_6 : decode cX4_does 6 = .ok (.lookupswitch 95 #[(98, 34), (102, 34), (114, 81)], 34) := by decide +kernel
theorem dX4_does_40 : decode cX4_does 40 = .ok (.aload_n 0, 1) := dk_42 (dk_at dksX4_does_2 0 rfl rfl)
theorem dX4_does_41 : decode cX4_does 41 = .ok (.iload_n 1, 1) := dk_27 (dk_at dksX4_does_2 1 rfl rfl)
theorem dX4_does_42 : decode cX4_does 42 = .ok (.invokevirtual 187, 3) := dk_182 0 187 (dk_at dksX4_does_2 2 rfl rfl)
theorem dX4_does_45 : decode cX4_does 45 = .ok (.bipush 64, 2) := dk_16 64 (dk_at dksX4_does_2 5 rfl rfl)
theorem dX4_does_47 : decode cX4_does 47 = .ok (.if_icmp .ne 5, 3) := dk_160 0 5 (dk_at dksX4_does_2 7 rfl rfl)
theorem dX4_does_50 : decode cX4_does 50 = .ok (.iconst 0, 1) := dk_3 (dk_at dksX4_does_2 10 rfl rfl)
theorem dX4_does_51 : decode cX4_does 51 = .ok (.ireturn, 1) := dk_172 (dk_at dksX4_does_2 11 rfl rfl)
theorem dX4_does_52 : decode cX4_does 52 = .ok (.aload_n 0, 1) := dk_42 (dk_at dksX4_does_2 12 rfl rfl)
theorem dX4_does_53 : decode cX4_does 53 = .ok (.iconst 2, 1) := dk_5 (dk_at dksX4_does_2 13 rfl rfl)
theorem dX4_does_54 : decode cX4_does 54 = .ok (.iload_n 1, 1) := dk_27 (dk_at dksX4_does_2 14 rfl rfl)
theorem dX4_does_55 : decode cX4_does 55 = .ok (.imul, 1) := dk_104 (dk_at dksX4_does_2 15 rfl rfl)
theorem dX4_does_56 : decode cX4_does 56 = .ok (.aload_n 0, 1) := dk_42 (dk_at dksX4_does_2 16 rfl rfl)
theorem dX4_does_57 : decode cX4_does 57 = .ok (.getfield 87, 3) := dk_180 0 87 (dk_at dksX4_does_2 17 rfl rfl)
theorem dX4_does_60 : decode cX4_does 60 = .ok (.iload_n 2, 1) := dk_28 (dk_at dksX4_does_2 20 rfl rfl)
theorem dX4_does_61 : decode cX4_does 61 = .ok (.iaload, 1) := dk_46 (dk_at dksX4_does_2 21 rfl rfl)
theorem dX4_does_62 : decode cX4_does 62 = .ok (.bipush 98, 2) := dk_16 98 (dk_at dksX4_does_2 22 rfl rfl)
theorem dX4_does_64 : decode cX4_does 64 = .ok (.if_icmp .ne 7, 3) := dk_160 0 7 (dk_at dksX4_does_3 0 rfl rfl)
theorem dX4_does_67 : decode cX4_does 67 = .ok (.iconst 1, 1) := dk_4 (dk_at dksX4_does_3 3 rfl rfl)
theorem dX4_does_68 : decode cX4_does 68 = .ok (.goto 4, 3) := dk_167 0 4 (dk_at dksX4_does_3 4 rfl rfl)
theorem dX4_does_71 : decode cX4_does 71 = .ok (.iconst 0, 1) := dk_3 (dk_at dksX4_does_3 7 rfl rfl)
theorem dX4_does_72 : decode cX4_does 72 = .ok (.invokestatic 31, 3) := dk_184 0 31 (dk_at dksX4_does_3 8 rfl rfl)
theorem dX4_does_75 : decode cX4_does 75 = .ok (.iadd, 1) := dk_96 (dk_at dksX4_does_3 11 rfl rfl)
theorem dX4_does_76 : decode cX4_does 76 = .ok (.aload_n 0, 1) := dk_42 (dk_at dksX4_does_3 12 rfl rfl)
theorem dX4_does_77 : decode cX4_does 77 = .ok (.getfield 90, 3) := dk_180 0 90 (dk_at dksX4_does_3 13 rfl rfl)
theorem dX4_does_80 : decode cX4_does 80 = .ok (.iload_n 2, 1) := dk_28 (dk_at dksX4_does_3 16 rfl rfl)
theorem dX4_does_81 : decode cX4_does 81 = .ok (.iaload, 1) := dk_46 (dk_at dksX4_does_3 17 rfl rfl)
theorem dX4_does_82 : decode cX4_does 82 = .ok (.invokevirtual 193, 3) := dk_182 0 193 (dk_at dksX4_does_3 18 rfl rfl)
theorem dX4_does_85 : decode cX4_does 85 = .ok (.iconst 1, 1) := dk_4 (dk_at dksX4_does_3 21 rfl rfl)
theorem dX4_does_86 : decode cX4_does 86 = .ok (.ireturn, 1) := dk_172 (dk_at dksX4_does_3 22 rfl rfl)
theorem dX4_does_87 : decode cX4_does 87 = .ok (.aload_n 0, 1) := dk_42 (dk_at dksX4_does_3 23 rfl rfl)
theorem dX4_does_88 : decode cX4_does 88 = .ok (.iload_n 1, 1) := dk_27 (dk_at dksX4_does_4 0 rfl rfl)
theorem dX4_does_89 : decode cX4_does 89 = .ok (.invokevirtual 252, 3) := dk_182 0 252 (dk_at dksX4_does_4 1 rfl rfl)
theorem dX4_does_92 : decode cX4_does 92 = .ok (.ifCond .lt 7, 3) := dk_155 0 7 (dk_at dksX4_does_4 4 rfl rfl)
theorem dX4_does_95 : decode cX4_does 95 = .ok (.iconst 1, 1) := dk_4 (dk_at dksX4_does_4 7 rfl rfl)
theorem dX4_does_96 : decode cX4_does 96 = .ok (.goto 4, 3) := dk_167 0 4 (dk_at dksX4_does_4 8 rfl rfl)
theorem dX4_does_99 : decode cX4_does 99 = .ok (.iconst 0, 1) := dk_3 (dk_at dksX4_does_4 11 rfl rfl)
theorem dX4_does_100 : decode cX4_does 100 = .ok (.ireturn, 1) := dk_172 (dk_at dksX4_does_4 12 rfl rfl)
theorem dX4_does_101 : decode cX4_does 101 = .ok (.aload_n 0, 1) := dk_42 (dk_at dksX4_does_4 13 rfl rfl)
theorem dX4_does_102 : decode cX4_does 102 = .ok (.iload_n 1, 1) := dk_27 (dk_at dksX4_does_4 14 rfl rfl)
theorem dX4_does_103 : decode cX4_does 103 = .ok (.invokevirtual 187, 3) := dk_182 0 187 (dk_at dksX4_does_4 15 rfl rfl)
theorem dX4_does_106 : decode cX4_does 106 = .ok (.ifCond .le 34, 3) := dk_158 0 34 (dk_at dksX4_does_4 18 rfl rfl)
theorem dX4_does_109 : decode cX4_does 109 = .ok (.aload_n 0, 1) := dk_42 (dk_at dksX4_does_4 21 rfl rfl)
theorem dX4_does_110 : decode cX4_does 110 = .ok (.iload_n 1, 1) := dk_27 (dk_at dksX4_does_4 22 rfl rfl)
theorem dX4_does_111 : decode cX4_does 111 = .ok (.aload_n 0, 1) := dk_42 (dk_at dksX4_does_4 23 rfl rfl)
theorem dX4_does_112 : decode cX4_does 112 = .ok (.getfield 87, 3) := dk_180 0 87 (dk_at dksX4_does_5 0 rfl rfl)
theorem dX4_does_115 : decode cX4_does 115 = .ok (.iload_n 2, 1) := dk_28 (dk_at dksX4_does_5 3 rfl rfl)
theorem dX4_does_116 : decode cX4_does 116 = .ok (.iaload, 1) := dk_46 (dk_at dksX4_does_5 4 rfl rfl)
theorem dX4_does_117 : decode cX4_does 117 = .ok (.bipush 66, 2) := dk_16 66 (dk_at dksX4_does_5 5 rfl rfl)
theorem dX4_does_119 : decode cX4_does 119 = .ok (.if_icmp .ne 7, 3) := dk_160 0 7 (dk_at dksX4_does_5 7 rfl rfl)
theorem dX4_does_122 : decode cX4_does 122 = .ok (.iconst 1, 1) := dk_4 (dk_at dksX4_does_5 10 rfl rfl)
theorem dX4_does_123 : decode cX4_does 123 = .ok (.goto 4, 3) := dk_167 0 4 (dk_at dksX4_does_5 11 rfl rfl)
theorem dX4_does_126 : decode cX4_does 126 = .ok (.iconst 0, 1) := dk_3 (dk_at dksX4_does_5 14 rfl rfl)
theorem dX4_does_127 : decode cX4_does 127 = .ok (.invokestatic 31, 3) := dk_184 0 31 (dk_at dksX4_does_5 15 rfl rfl)
theorem dX4_does_130 : decode cX4_does 130 = .ok (.invokevirtual 243, 3) := dk_182 0 243 (dk_at dksX4_does_5 18 rfl rfl)
theorem dX4_does_133 : decode cX4_does 133 = .ok (.ifCond .lt 7, 3) := dk_155 0 7 (dk_at dksX4_does_5 21 rfl rfl)
theorem dX4_does_136 : decode cX4_does 136 = .ok (.iconst 1, 1) := dk_4 (dk_at dksX4_does_6 0 rfl rfl)
theorem dX4_does_137 : decode cX4_does 137 = .ok (.goto 4, 3) := dk_167 0 4 (dk_at dksX4_does_6 1 rfl rfl)
theorem dX4_does_140 : decode cX4_does 140 = .ok (.iconst 0, 1) := dk_3 (dk_at dksX4_does_6 4 rfl rfl)
theorem dX4_does_141 : decode cX4_does 141 = .ok (.ireturn, 1) := dk_172 (dk_at dksX4_does_6 5 rfl rfl)
def dkwX4_sum_1 : List UInt8 := [42, 27, 182, 0, 187, 172]
abbrev dktX4_sum_1 : List UInt8 := dkwX4_sum_1 ++ []
def dkwX4_sum_0 : List UInt8 := [42, 3, 181, 0, 1, 27, 184, 0, 237, 154, 0, 5, 2, 172, 42, 3, 181, 0, 11, 42, 27, 182, 1, 12]
abbrev dktX4_sum_0 : List UInt8 := dkwX4_sum_0 ++ dktX4_sum_1
theorem dksX4_sum_0 : cX4_sum.data.toList.drop 0 = dktX4_sum_0 := by decide +kernel
theorem dksX4_sum_1 : cX4_sum.data.toList.drop 24 = dktX4_sum_1 := dk_seg dksX4_sum_0 24 rfl rfl
theorem dX4_sum_0 : decode cX4_sum 0 = .ok (.aload_n 0, 1) := dk_42 (dk_at dksX4_sum_0 0 rfl rfl)
theorem dX4_sum_1 : decode cX4_sum 1 = .ok (.iconst 0, 1) := dk_3 (dk_at dksX4_sum_0 1 rfl rfl)
theorem dX4_sum_2 : decode cX4_sum 2 = .ok (.putfield 1, 3) := dk_181 0 1 (dk_at dksX4_sum_0 2 rfl rfl)
theorem dX4_sum_5 : decode cX4_sum 5 = .ok (.iload_n 1, 1) := dk_27 (dk_at dksX4_sum_0 5 rfl rfl)
theorem dX4_sum_6 : decode cX4_sum 6 = .ok (.invokestatic 237, 3) := dk_184 0 237 (dk_at dksX4_sum_0 6 rfl rfl)
theorem dX4_sum_9 : decode cX4_sum 9 = .ok (.ifCond .ne 5, 3) := dk_154 0 5 (dk_at dksX4_sum_0 9 rfl rfl)
theorem dX4_sum_12 : decode cX4_sum 12 = .ok (.iconst (-1), 1) := dk_2 (dk_at dksX4_sum_0 12 rfl rfl)
theorem dX4_sum_13 : decode cX4_sum 13 = .ok (.ireturn, 1) := dk_172 (dk_at dksX4_sum_0 13 rfl rfl)
theorem dX4_sum_14 : decode cX4_sum 14 = .ok (.aload_n 0, 1) := dk_42 (dk_at dksX4_sum_0 14 rfl rfl)
theorem dX4_sum_15 : decode cX4_sum 15 = .ok (.iconst 0, 1) := dk_3 (dk_at dksX4_sum_0 15 rfl rfl)
theorem dX4_sum_16 : decode cX4_sum 16 = .ok (.putfield 11, 3) := dk_181 0 11 (dk_at dksX4_sum_0 16 rfl rfl)
theorem dX4_sum_19 : decode cX4_sum 19 = .ok (.aload_n 0, 1) := dk_42 (dk_at dksX4_sum_0 19 rfl rfl)
theorem dX4_sum_20 : decode cX4_sum 20 = .ok (.iload_n 1, 1) := dk_27 (dk_at dksX4_sum_0 20 rfl rfl)
theorem dX4_sum_21 : decode cX4_sum 21 = .ok (.invokevirtual 268, 3) := dk_182 1 12 (dk_at dksX4_sum_0 21 rfl rfl)
theorem dX4_sum_24 : decode cX4_sum 24 = .ok (.aload_n 0, 1) := dk_42 (dk_at dksX4_sum_1 0 rfl rfl)
theorem dX4_sum_25 : decode cX4_sum 25 = .ok (.iload_n 1, 1) := dk_27 (dk_at dksX4_sum_1 1 rfl rfl)
theorem dX4_sum_26 : decode cX4_sum 26 = .ok (.invokevirtual 187, 3) := dk_182 0 187 (dk_at dksX4_sum_1 2 rfl rfl)
theorem dX4_sum_29 : decode cX4_sum 29 = .ok (.ireturn, 1) := dk_172 (dk_at dksX4_sum_1 5 rfl rfl)
def dkwX4_item_5 : List UInt8 := [180, 0, 78, 29, 47, 182, 0, 164, 42, 180, 0, 72, 29, 46, 172]
abbrev dktX4_item_5 : List UInt8 := dkwX4_item_5 ++ []
def dkwX4_item_4 : List UInt8 := [27, 182, 0, 187, 4, 100, 28, 100, 133, 182, 0, 164, 42, 42, 180, 0, 75, 29, 47, 182, 0, 164, 42, 42]
abbrev dktX4_item_4 : List UInt8 := dkwX4_item_4 ++ dktX4_item_5
def dkwX4_item_3 : List UInt8 := [167, 0, 4, 3, 184, 0, 31, 133, 182, 0, 164, 42, 28, 21, 4, 162, 0, 8, 28, 133, 167, 0, 13, 42]
abbrev dktX4_item_3 : List UInt8 := dkwX4_item_3 ++ dktX4_item_4
def dkwX4_item_2 : List UInt8 := [180, 0, 66, 5, 27, 104, 46, 54, 4, 42, 3, 181, 0, 11, 42, 28, 21, 4, 161, 0, 7, 4]
abbrev dktX4_item_2 : List UInt8 := dkwX4_item_2 ++ dktX4_item_3
def dkwX4_item_1 : List UInt8 := [184, 0, 31, 181, 0, 1, 42, 180, 0, 1, 4, 160, 0, 5, 3, 172, 42, 27, 28, 182, 0, 181, 62, 42]
abbrev dktX4_item_1 : List UInt8 := dkwX4_item_1 ++ dktX4_item_2
def dkwX4_item_0 : List UInt8 := [42, 27, 184, 0, 237, 153, 0, 12, 42, 27, 28, 182, 0, 255, 154, 0, 7, 4, 167, 0, 4, 3]
abbrev dktX4_item_0 : List UInt8 := dkwX4_item_0 ++ dktX4_item_1
theorem dksX4_item_0 : cX4_item.data.toList.drop 0 = dktX4_item_0 := by decide +kernel
theorem dksX4_item_1 : cX4_item.data.toList.drop 22 = dktX4_item_1 := dk_seg dksX4_item_0 22 rfl rfl
theorem dksX4_item_2 : cX4_item.data.toList.drop 46 = dktX4_item_2 := dk_seg dksX4_item_1 24 rfl rfl
theorem dksX4_item_3 : cX4_item.data.toList.drop 68 = dktX4_item_3 := dk_seg dksX4_item_2 22 rfl rfl
theorem dksX4_item_4 : cX4_item.data.toList.drop 92 = dktX4_item_4 := dk_seg dksX4_item_3 24 rfl rfl
theorem dksX4_item_5 : cX4_item.data.toList.drop 116 = dktX4_item_5 := dk_seg dksX4_item_4 24 rfl rfl
theorem dX4_item_0 : decode cX4_item 0 = .ok (.aload_n 0, 1) := dk_42 (dk_at dksX4_item_0 0 rfl rfl)
theorem dX4_item_1 : decode cX4_item 1 = .ok (.iload_n 1, 1) := dk_27 (dk_at dksX4_item_0 1 rfl rfl)
theorem dX4_item_2 : decode cX4_item 2 = .ok (.invokestatic 237, 3) := dk_184 0 237 (dk_at dksX4_item_0 2 rfl rfl)
theorem dX4_item_5 : decode cX4_item 5 = .ok (.ifCond .eq 12, 3) := dk_153 0 12 (dk_at dksX4_item_0 5 rfl rfl)
theorem dX4_item_8 : decode cX4_item 8 = .ok (.aload_n 0, 1) := dk_42 (dk_at dksX4_item_0 8 rfl rfl)
theorem dX4_item_9 : decode cX4_item 9 = .ok (.iload_n 1, 1) := dk_27 (dk_at dksX4_item_0 9 rfl rfl)
theorem dX4_item_10 : decode cX4_item 10 = .ok (.iload_n 2, 1) := dk_28 (dk_at dksX4_item_0 10 rfl rfl)
theorem dX4_item_11 : decode cX4_item 11 = .ok (.invokevirtual 255, 3) := dk_182 0 255 (dk_at dksX4_item_0 11 rfl rfl)
theorem dX4_item_14 : decode cX4_item 14 = .ok (.ifCond .ne 7, 3) := dk_154 0 7 (dk_at dksX4_item_0 14 rfl rfl)
theorem dX4_item_17 : decode cX4_item 17 = .ok (.iconst 1, 1) := dk_4 (dk_at dksX4_item_0 17 rfl rfl)
theorem dX4_item_18 : decode cX4_item 18 = .ok (.goto 4, 3) := dk_167 0 4 (dk_at dksX4_item_0 18 rfl rfl)
theorem dX4_item_21 : decode cX4_item 21 = .ok (.iconst 0, 1) := dk_3 (dk_at dksX4_item_0 21 rfl rfl)
theorem dX4_item_22 : decode cX4_item 22 = .ok (.invokestatic 31, 3) := dk_184 0 31 (dk_at dksX4_item_1 0 rfl rfl)
theorem dX4_item_25 : decode cX4_item 25 = .ok (.putfield 1, 3) := dk_181 0 1 (dk_at dksX4_item_1 3 rfl rfl)
theorem dX4_item_28 : decode cX4_item 28 = .ok (.aload_n 0, 1) := dk_42 (dk_at dksX4_item_1 6 rfl rfl)
theorem dX4_item_29 : decode cX4_item 29 = .ok (.getfield 1, 3) := dk_180 0 1 (dk_at dksX4_item_1 7 rfl rfl)
theorem dX4_item_32 : decode cX4_item 32 = .ok (.iconst 1, 1) := dk_4 (dk_at dksX4_item_1 10 rfl rfl)
theorem dX4_item_33 : decode cX4_item 33 = .ok (.if_icmp .ne 5, 3) := dk_160 0 5 (dk_at dksX4_item_1 11 rfl rfl)
theorem dX4_item_36 : decode cX4_item 36 = .ok (.iconst 0, 1) := dk_3 (dk_at dksX4_item_1 14 rfl rfl)
theorem dX4_item_37 : decode cX4_item 37 = .ok (.ireturn, 1) := dk_172 (dk_at dksX4_item_1 15 rfl rfl)
theorem dX4_item_38 : decode cX4_item 38 = .ok (.aload_n 0, 1) := dk_42 (dk_at dksX4_item_1 16 rfl rfl)
theorem dX4_item_39 : decode cX4_item 39 = .ok (.iload_n 1, 1) := dk_27 (dk_at dksX4_item_1 17 rfl rfl)
theorem dX4_item_40 : decode cX4_item 40 = .ok (.iload_n 2, 1) := dk_28 (dk_at dksX4_item_1 18 rfl rfl)
theorem dX4_item_41 : decode cX4_item 41 = .ok (.invokevirtual 181, 3) := dk_182 0 181 (dk_at dksX4_item_1 19 rfl rfl)
theorem dX4_item_44 : decode cX4_item 44 = .ok (.istore_n 3, 1) := dk_62 (dk_at dksX4_item_1 22 rfl rfl)
theorem dX4_item_45 : decode cX4_item 45 = .ok (.aload_n 0, 1) := dk_42 (dk_at dksX4_item_1 23 rfl rfl)
theorem dX4_item_46 : decode cX4_item 46 = .ok (.getfield 66, 3) := dk_180 0 66 (dk_at dksX4_item_2 0 rfl rfl)
theorem dX4_item_49 : decode cX4_item 49 = .ok (.iconst 2, 1) := dk_5 (dk_at dksX4_item_2 3 rfl rfl)
theorem dX4_item_50 : decode cX4_item 50 = .ok (.iload_n 1, 1) := dk_27 (dk_at dksX4_item_2 4 rfl rfl)
theorem dX4_item_51 : decode cX4_item 51 = .ok (.imul, 1) := dk_104 (dk_at dksX4_item_2 5 rfl rfl)
theorem dX4_item_52 : decode cX4_item 52 = .ok (.iaload, 1) := dk_46 (dk_at dksX4_item_2 6 rfl rfl)
theorem dX4_item_53 : decode cX4_item 53 = .ok (.istore 4, 2) := dk_54 4 (dk_at dksX4_item_2 7 rfl rfl)
theorem dX4_item_55 : decode cX4_item 55 = .ok (.aload_n 0, 1) := dk_42 (dk_at dksX4_item_2 9 rfl rfl)
theorem dX4_item_56 : decode cX4_item 56 = .ok (.iconst 0, 1) := dk_3 (dk_at dksX4_item_2 10 rfl rfl)
theorem dX4_item_57 : decode cX4_item 57 = .ok (.putfield 11, 3) := dk_181 0 11 (dk_at dksX4_item_2 11 rfl rfl)
theorem dX4_item_60 : decode cX4_item 60 = .ok (.aload_n 0, 1) := dk_42 (dk_at dksX4_item_2 14 rfl rfl)
theorem dX4_item_61 : decode cX4_item 61 = .ok (.iload_n 2, 1) := dk_28 (dk_at dksX4_item_2 15 rfl rfl)
theorem dX4_item_62 : decode cX4_item 62 = .ok (.iload 4, 2) := dk_21 4 (dk_at dksX4_item_2 16 rfl rfl)
theorem dX4_item_64 : decode cX4_item 64 = .ok (.if_icmp .lt 7, 3) := dk_161 0 7 (dk_at dksX4_item_2 18 rfl rfl)
theorem dX4_item_67 : decode cX4_item 67 = .ok (.iconst 1, 1) := dk_4 (dk_at dksX4_item_2 21 rfl rfl)
theorem dX4_item_68 : decode cX4_item 68 = .ok (.goto 4, 3) := dk_167 0 4 (dk_at dksX4_item_3 0 rfl rfl)
theorem dX4_item_71 : decode cX4_item 71 = .ok (.iconst 0, 1) := dk_3 (dk_at dksX4_item_3 3 rfl rfl)
theorem dX4_item_72 : decode cX4_item 72 = .ok (.invokestatic 31, 3) := dk_184 0 31 (dk_at dksX4_item_3 4 rfl rfl)
theorem dX4_item_75 : decode cX4_item 75 = .ok (.i2l, 1) := dk_133 (dk_at dksX4_item_3 7 rfl rfl)
theorem dX4_item_76 : decode cX4_item 76 = .ok (.invokevirtual 164, 3) := dk_182 0 164 (dk_at dksX4_item_3 8 rfl rfl)
theorem dX4_item_79 : decode cX4_item 79 = .ok (.aload_n 0, 1) := dk_42 (dk_at dksX4_item_3 11 rfl rfl)
theorem dX4_item_80 : decode cX4_item 80 = .ok (.iload_n 2, 1) := dk_28 (dk_at dksX4_item_3 12 rfl rfl)
theorem dX4_item_81 : decode cX4_item 81 = .ok (.iload 4, 2) := dk_21 4 (dk_at dksX4_item_3 13 rfl rfl)
theorem dX4_item_83 : decode cX4_item 83 = .ok (.if_icmp .ge 8, 3) := dk_162 0 8 (dk_at dksX4_item_3 15 rfl rfl)
theorem dX4_item_86 : decode cX4_item 86 = .ok (.iload_n 2, 1) := dk_28 (dk_at dksX4_item_3 18 rfl rfl)
theorem dX4_item_87 : decode cX4_item 87 = .ok (.i2l, 1) := dk_133 (dk_at dksX4_item_3 19 rfl rfl)
theorem dX4_item_88 : decode cX4_item 88 = .ok (.goto 13, 3) := dk_167 0 13 (dk_at dksX4_item_3 20 rfl rfl)
theorem dX4_item_91 : decode cX4_item 91 = .ok (.aload_n 0, 1) := dk_42 (dk_at dksX4_item_3 23 rfl rfl)
theorem dX4_item_92 : decode cX4_item 92 = .ok (.iload_n 1, 1) := dk_27 (dk_at dksX4_item_4 0 rfl rfl)
theorem dX4_item_93 : decode cX4_item 93 = .ok (.invokevirtual 187, 3) := dk_182 0 187 (dk_at dksX4_item_4 1 rfl rfl)
theorem dX4_item_96 : decode cX4_item 96 = .ok (.iconst 1, 1) := dk_4 (dk_at dksX4_item_4 4 rfl rfl)
theorem dX4_item_97 : decode cX4_item 97 = .ok (.isub, 1) := dk_100 (dk_at dksX4_item_4 5 rfl rfl)
theorem dX4_item_98 : decode cX4_item 98 = .ok (.iload_n 2, 1) := dk_28 (dk_at dksX4_item_4 6 rfl rfl)
theorem dX4_item_99 : decode cX4_item 99 = .ok (.isub, 1) := dk_100 (dk_at dksX4_item_4 7 rfl rfl)
theorem dX4_item_100 : decode cX4_item 100 = .ok (.i2l, 1) := dk_133 (dk_at dksX4_item_4 8 rfl rfl)
theorem dX4_item_101 : decode cX4_item 101 = .ok (.invokevirtual 164, 3) := dk_182 0 164 (dk_at dksX4_item_4 9 rfl rfl)
theorem dX4_item_104 : decode cX4_item 104 = .ok (.aload_n 0, 1) := dk_42 (dk_at dksX4_item_4 12 rfl rfl)
theorem dX4_item_105 : decode cX4_item 105 = .ok (.aload_n 0, 1) := dk_42 (dk_at dksX4_item_4 13 rfl rfl)
theorem dX4_item_106 : decode cX4_item 106 = .ok (.getfield 75, 3) := dk_180 0 75 (dk_at dksX4_item_4 14 rfl rfl)
theorem dX4_item_109 : decode cX4_item 109 = .ok (.iload_n 3, 1) := dk_29 (dk_at dksX4_item_4 17 rfl rfl)
theorem dX4_item_110 : decode cX4_item 110 = .ok (.laload, 1) := dk_47 (dk_at dksX4_item_4 18 rfl rfl)
theorem dX4_item_111 : decode cX4_item 111 = .ok (.invokevirtual 164, 3) := dk_182 0 164 (dk_at dksX4_item_4 19 rfl rfl)
theorem dX4_item_114 : decode cX4_item 114 = .ok (.aload_n 0, 1) := dk_42 (dk_at dksX4_item_4 22 rfl rfl)
theorem dX4_item_115 : decode cX4_item 115 = .ok (.aload_n 0, 1) := dk_42 (dk_at dksX4_item_4 23 rfl rfl)
theorem dX4_item_116 : decode cX4_item 116 = .ok (.getfield 78, 3) := dk_180 0 78 (dk_at dksX4_item_5 0 rfl rfl)
theorem dX4_item_119 : decode cX4_item 119 = .ok (.iload_n 3, 1) := dk_29 (dk_at dksX4_item_5 3 rfl rfl)
theorem dX4_item_120 : decode cX4_item 120 = .ok (.laload, 1) := dk_47 (dk_at dksX4_item_5 4 rfl rfl)
theorem dX4_item_121 : decode cX4_item 121 = .ok (.invokevirtual 164, 3) := dk_182 0 164 (dk_at dksX4_item_5 5 rfl rfl)
theorem dX4_item_124 : decode cX4_item 124 = .ok (.aload_n 0, 1) := dk_42 (dk_at dksX4_item_5 8 rfl rfl)
theorem dX4_item_125 : decode cX4_item 125 = .ok (.getfield 72, 3) := dk_180 0 72 (dk_at dksX4_item_5 9 rfl rfl)
theorem dX4_item_128 : decode cX4_item 128 = .ok (.iload_n 3, 1) := dk_29 (dk_at dksX4_item_5 12 rfl rfl)
theorem dX4_item_129 : decode cX4_item 129 = .ok (.iaload, 1) := dk_46 (dk_at dksX4_item_5 13 rfl rfl)
theorem dX4_item_130 : decode cX4_item 130 = .ok (.ireturn, 1) := dk_172 (dk_at dksX4_item_5 14 rfl rfl)
def dkwX4_part_2 : List UInt8 := [181, 0, 11, 42, 42, 180, 0, 96, 182, 0, 164, 42, 42, 180, 0, 100, 182, 0, 164, 29, 28, 100, 172]
abbrev dktX4_part_2 : List UInt8 := dkwX4_part_2 ++ []
def dkwX4_part_1 : List UInt8 := [42, 27, 182, 0, 187, 164, 0, 6, 16, 254, 172, 42, 27, 28, 29, 28, 100, 182, 1, 24, 42, 3]
abbrev dktX4_part_1 : List UInt8 := dkwX4_part_1 ++ dktX4_part_2
def dkwX4_part_0 : List UInt8 := [42, 3, 181, 0, 1, 27, 184, 0, 237, 154, 0, 5, 2, 172, 28, 155, 0, 17, 29, 28, 161, 0, 12, 29]
abbrev dktX4_part_0 : List UInt8 := dkwX4_part_0 ++ dktX4_part_1
theorem dksX4_part_0 : cX4_part.data.toList.drop 0 = dktX4_part_0 := by decide +kernel
theorem dksX4_part_1 : cX4_part.data.toList.drop 24 = dktX4_part_1 := dk_seg dksX4_part_0 24 rfl rfl
theorem dksX4_part_2 : cX4_part.data.toList.drop 46 = dktX4_part_2 := dk_seg dksX4_part_1 22 rfl rfl
theorem dX4_part_0 : decode cX4_part 0 = .ok (.aload_n 0, 1) := dk_42 (dk_at dksX4_part_0 0 rfl rfl)
theorem dX4_part_1 : decode cX4_part 1 = .ok (.iconst 0, 1) := dk_3 (dk_at dksX4_part_0 1 rfl rfl)
theorem dX4_part_2 : decode cX4_part 2 = .ok (.putfield 1, 3) := dk_181 0 1 (dk_at dksX4_part_0 2 rfl rfl)
theorem dX4_part_5 : decode cX4_part 5 = .ok (.iload_n 1, 1) := dk_27 (dk_at dksX4_part_0 5 rfl rfl)
theorem dX4_part_6 : decode cX4_part 6 = .ok (.invokestatic 237, 3) := dk_184 0 237 (dk_at dksX4_part_0 6 rfl rfl)
theorem dX4_part_9 : decode cX4_part 9 = .ok (.ifCond .ne 5, 3) := dk_154 0 5 (dk_at dksX4_part_0 9 rfl rfl)
theorem dX4_part_12 : decode cX4_part 12 = .ok (.iconst (-1), 1) := dk_2 (dk_at dksX4_part_0 12 rfl rfl)
theorem dX4_part_13 : decode cX4_part 13 = .ok (.ireturn, 1) := dk_172 (dk_at dksX4_part_0 13 rfl rfl)
theorem dX4_part_14 : decode cX4_part 14 = .ok (.iload_n 2, 1) := dk_28 (dk_at dksX4_part_0 14 rfl rfl)
theorem dX4_part_15 : decode cX4_part 15 = .ok (.ifCond .lt 17, 3) := dk_155 0 17 (dk_at dksX4_part_0 15 rfl rfl)
theorem dX4_part_18 : decode cX4_part 18 = .ok (.iload_n 3, 1) := dk_29 (dk_at dksX4_part_0 18 rfl rfl)
theorem dX4_part_19 : decode cX4_part 19 = .ok (.iload_n 2, 1) := dk_28 (dk_at dksX4_part_0 19 rfl rfl)
theorem dX4_part_20 : decode cX4_part 20 = .ok (.if_icmp .lt 12, 3) := dk_161 0 12 (dk_at dksX4_part_0 20 rfl rfl)
theorem dX4_part_23 : decode cX4_part 23 = .ok (.iload_n 3, 1) := dk_29 (dk_at dksX4_part_0 23 rfl rfl)
theorem dX4_part_24 : decode cX4_part 24 = .ok (.aload_n 0, 1) := dk_42 (dk_at dksX4_part_1 0 rfl rfl)
theorem dX4_part_25 : decode cX4_part 25 = .ok (.iload_n 1, 1) := dk_27 (dk_at dksX4_part_1 1 rfl rfl)
theorem dX4_part_26 : decode cX4_part 26 = .ok (.invokevirtual 187, 3) := dk_182 0 187 (dk_at dksX4_part_1 2 rfl rfl)
theorem dX4_part_29 : decode cX4_part 29 = .ok (.if_icmp .le 6, 3) := dk_164 0 6 (dk_at dksX4_part_1 5 rfl rfl)
theorem dX4_part_32 : decode cX4_part 32 = .ok (.bipush (-2), 2) := dk_16 254 (dk_at dksX4_part_1 8 rfl rfl)
theorem dX4_part_34 : decode cX4_part 34 = .ok (.ireturn, 1) := dk_172 (dk_at dksX4_part_1 10 rfl rfl)
theorem dX4_part_35 : decode cX4_part 35 = .ok (.aload_n 0, 1) := dk_42 (dk_at dksX4_part_1 11 rfl rfl)
theorem dX4_part_36 : decode cX4_part 36 = .ok (.iload_n 1, 1) := dk_27 (dk_at dksX4_part_1 12 rfl rfl)
theorem dX4_part_37 : decode cX4_part 37 = .ok (.iload_n 2, 1) := dk_28 (dk_at dksX4_part_1 13 rfl rfl)
theorem dX4_part_38 : decode cX4_part 38 = .ok (.iload_n 3, 1) := dk_29 (dk_at dksX4_part_1 14 rfl rfl)
theorem dX4_part_39 : decode cX4_part 39 = .ok (.iload_n 2, 1) := dk_28 (dk_at dksX4_part_1 15 rfl rfl)
theorem dX4_part_40 : decode cX4_part 40 = .ok (.isub, 1) := dk_100 (dk_at dksX4_part_1 16 rfl rfl)
theorem dX4_part_41 : decode cX4_part 41 = .ok (.invokevirtual 280, 3) := dk_182 1 24 (dk_at dksX4_part_1 17 rfl rfl)
theorem dX4_part_44 : decode cX4_part 44 = .ok (.aload_n 0, 1) := dk_42 (dk_at dksX4_part_1 20 rfl rfl)
theorem dX4_part_45 : decode cX4_part 45 = .ok (.iconst 0, 1) := dk_3 (dk_at dksX4_part_1 21 rfl rfl)
theorem dX4_part_46 : decode cX4_part 46 = .ok (.putfield 11, 3) := dk_181 0 11 (dk_at dksX4_part_2 0 rfl rfl)
theorem dX4_part_49 : decode cX4_part 49 = .ok (.aload_n 0, 1) := dk_42 (dk_at dksX4_part_2 3 rfl rfl)
theorem dX4_part_50 : decode cX4_part 50 = .ok (.aload_n 0, 1) := dk_42 (dk_at dksX4_part_2 4 rfl rfl)
theorem dX4_part_51 : decode cX4_part 51 = .ok (.getfield 96, 3) := dk_180 0 96 (dk_at dksX4_part_2 5 rfl rfl)
theorem dX4_part_54 : decode cX4_part 54 = .ok (.invokevirtual 164, 3) := dk_182 0 164 (dk_at dksX4_part_2 8 rfl rfl)
theorem dX4_part_57 : decode cX4_part 57 = .ok (.aload_n 0, 1) := dk_42 (dk_at dksX4_part_2 11 rfl rfl)
theorem dX4_part_58 : decode cX4_part 58 = .ok (.aload_n 0, 1) := dk_42 (dk_at dksX4_part_2 12 rfl rfl)
theorem dX4_part_59 : decode cX4_part 59 = .ok (.getfield 100, 3) := dk_180 0 100 (dk_at dksX4_part_2 13 rfl rfl)
theorem dX4_part_62 : decode cX4_part 62 = .ok (.invokevirtual 164, 3) := dk_182 0 164 (dk_at dksX4_part_2 16 rfl rfl)
theorem dX4_part_65 : decode cX4_part 65 = .ok (.iload_n 3, 1) := dk_29 (dk_at dksX4_part_2 19 rfl rfl)
theorem dX4_part_66 : decode cX4_part 66 = .ok (.iload_n 2, 1) := dk_28 (dk_at dksX4_part_2 20 rfl rfl)
theorem dX4_part_67 : decode cX4_part 67 = .ok (.isub, 1) := dk_100 (dk_at dksX4_part_2 21 rfl rfl)
theorem dX4_part_68 : decode cX4_part 68 = .ok (.ireturn, 1) := dk_172 (dk_at dksX4_part_2 22 rfl rfl)
def dkwX4_sums_3 : List UInt8 := [55, 6, 132, 8, 1, 167, 255, 201, 42, 22, 4, 22, 6, 182, 0, 107, 177]
abbrev dktX4_sums_3 : List UInt8 := dkwX4_sums_3 ++ []
def dkwX4_sums_2 : List UInt8 := [22, 6, 42, 180, 0, 96, 42, 180, 0, 100, 182, 0, 152, 42, 180, 0, 96, 55, 4, 42, 180, 0, 100]
abbrev dktX4_sums_2 : List UInt8 := dkwX4_sums_2 ++ dktX4_sums_3
def dkwX4_sums_1 : List UInt8 := [162, 0, 55, 42, 42, 27, 28, 21, 8, 96, 182, 0, 190, 182, 0, 148, 21, 8, 158, 0, 19, 42, 22, 4]
abbrev dktX4_sums_1 : List UInt8 := dkwX4_sums_1 ++ dktX4_sums_2
def dkwX4_sums_0 : List UInt8 := [42, 182, 0, 168, 42, 180, 0, 96, 55, 4, 42, 180, 0, 100, 55, 6, 3, 54, 8, 21, 8, 29]
abbrev dktX4_sums_0 : List UInt8 := dkwX4_sums_0 ++ dktX4_sums_1
theorem dksX4_sums_0 : cX4_sums.data.toList.drop 0 = dktX4_sums_0 := by decide +kernel
theorem dksX4_sums_1 : cX4_sums.data.toList.drop 22 = dktX4_sums_1 := dk_seg dksX4_sums_0 22 rfl rfl
theorem dksX4_sums_2 : cX4_sums.data.toList.drop 46 = dktX4_sums_2 := dk_seg dksX4_sums_1 24 rfl rfl
theorem dksX4_sums_3 : cX4_sums.data.toList.drop 69 = dktX4_sums_3 := dk_seg dksX4_sums_2 23 rfl rfl
theorem dX4_sums_0 : decode cX4_sums 0 = .ok (.aload_n 0, 1) := dk_42 (dk_at dksX4_sums_0 0 rfl rfl)
theorem dX4_sums_1 : decode cX4_sums 1 = .ok (.invokevirtual 168, 3) := dk_182 0 168 (dk_at dksX4_sums_0 1 rfl rfl)
theorem dX4_sums_4 : decode cX4_sums 4 = .ok (.aload_n 0, 1) := dk_42 (dk_at dksX4_sums_0 4 rfl rfl)
theorem dX4_sums_5 : decode cX4_sums 5 = .ok (.getfield 96, 3) := dk_180 0 96 (dk_at dksX4_sums_0 5 rfl rfl)
theorem dX4_sums_8 : decode cX4_sums 8 = .ok (.lstore 4, 2) := dk_55 4 (dk_at dksX4_sums_0 8 rfl rfl)
theorem dX4_sums_10 : decode cX4_sums 10 = .ok (.aload_n 0, 1) := dk_42 (dk_at dksX4_sums_0 10 rfl rfl)
theorem dX4_sums_11 : decode cX4_sums 11 = .ok (.getfield 100, 3) := dk_180 0 100 (dk_at dksX4_sums_0 11 rfl rfl)
theorem dX4_sums_14 : decode cX4_sums 14 = .ok (.lstore 6, 2) := dk_55 6 (dk_at dksX4_sums_0 14 rfl rfl)
theorem dX4_sums_16 : decode cX4_sums 16 = .ok (.iconst 0, 1) := dk_3 (dk_at dksX4_sums_0 16 rfl rfl)
theorem dX4_sums_17 : decode cX4_sums 17 = .ok (.istore 8, 2) := dk_54 8 (dk_at dksX4_sums_0 17 rfl rfl)
theorem dX4_sums_19 : decode cX4_sums 19 = .ok (.iload 8, 2) := dk_21 8 (dk_at dksX4_sums_0 19 rfl rfl)
theorem dX4_sums_21 : decode cX4_sums 21 = .ok (.iload_n 3, 1) := dk_29 (dk_at dksX4_sums_0 21 rfl rfl)
theorem dX4_sums_22 : decode cX4_sums 22 = .ok (.if_icmp .ge 55, 3) := dk_162 0 55 (dk_at dksX4_sums_1 0 rfl rfl)
theorem dX4_sums_25 : decode cX4_sums 25 = .ok (.aload_n 0, 1) := dk_42 (dk_at dksX4_sums_1 3 rfl rfl)
theorem dX4_sums_26 : decode cX4_sums 26 = .ok (.aload_n 0, 1) := dk_42 (dk_at dksX4_sums_1 4 rfl rfl)
theorem dX4_sums_27 : decode cX4_sums 27 = .ok (.iload_n 1, 1) := dk_27 (dk_at dksX4_sums_1 5 rfl rfl)
theorem dX4_sums_28 : decode cX4_sums 28 = .ok (.iload_n 2, 1) := dk_28 (dk_at dksX4_sums_1 6 rfl rfl)
theorem dX4_sums_29 : decode cX4_sums 29 = .ok (.iload 8, 2) := dk_21 8 (dk_at dksX4_sums_1 7 rfl rfl)
theorem dX4_sums_31 : decode cX4_sums 31 = .ok (.iadd, 1) := dk_96 (dk_at dksX4_sums_1 9 rfl rfl)
theorem dX4_sums_32 : decode cX4_sums 32 = .ok (.invokevirtual 190, 3) := dk_182 0 190 (dk_at dksX4_sums_1 10 rfl rfl)
theorem dX4_sums_35 : decode cX4_sums 35 = .ok (.invokevirtual 148, 3) := dk_182 0 148 (dk_at dksX4_sums_1 13 rfl rfl)
theorem dX4_sums_38 : decode cX4_sums 38 = .ok (.iload 8, 2) := dk_21 8 (dk_at dksX4_sums_1 16 rfl rfl)
theorem dX4_sums_40 : decode cX4_sums 40 = .ok (.ifCond .le 19, 3) := dk_158 0 19 (dk_at dksX4_sums_1 18 rfl rfl)
theorem dX4_sums_43 : decode cX4_sums 43 = .ok (.aload_n 0, 1) := dk_42 (dk_at dksX4_sums_1 21 rfl rfl)
theorem dX4_sums_44 : decode cX4_sums 44 = .ok (.lload 4, 2) := dk_22 4 (dk_at dksX4_sums_1 22 rfl rfl)
theorem dX4_sums_46 : decode cX4_sums 46 = .ok (.lload 6, 2) := dk_22 6 (dk_at dksX4_sums_2 0 rfl rfl)
theorem dX4_sums_48 : decode cX4_sums 48 = .ok (.aload_n 0, 1) := dk_42 (dk_at dksX4_sums_2 2 rfl rfl)
theorem dX4_sums_49 : decode cX4_sums 49 = .ok (.getfield 96, 3) := dk_180 0 96 (dk_at dksX4_sums_2 3 rfl rfl)
theorem dX4_sums_52 : decode cX4_sums 52 = .ok (.aload_n 0, 1) := dk_42 (dk_at dksX4_sums_2 6 rfl rfl)
theorem dX4_sums_53 : decode cX4_sums 53 = .ok (.getfield 100, 3) := dk_180 0 100 (dk_at dksX4_sums_2 7 rfl rfl)
theorem dX4_sums_56 : decode cX4_sums 56 = .ok (.invokevirtual 152, 3) := dk_182 0 152 (dk_at dksX4_sums_2 10 rfl rfl)
theorem dX4_sums_59 : decode cX4_sums 59 = .ok (.aload_n 0, 1) := dk_42 (dk_at dksX4_sums_2 13 rfl rfl)
theorem dX4_sums_60 : decode cX4_sums 60 = .ok (.getfield 96, 3) := dk_180 0 96 (dk_at dksX4_sums_2 14 rfl rfl)
theorem dX4_sums_63 : decode cX4_sums 63 = .ok (.lstore 4, 2) := dk_55 4 (dk_at dksX4_sums_2 17 rfl rfl)
theorem dX4_sums_65 : decode cX4_sums 65 = .ok (.aload_n 0, 1) := dk_42 (dk_at dksX4_sums_2 19 rfl rfl)
theorem dX4_sums_66 : decode cX4_sums 66 = .ok (.getfield 100, 3) := dk_180 0 100 (dk_at dksX4_sums_2 20 rfl rfl)
theorem dX4_sums_69 : decode cX4_sums 69 = .ok (.lstore 6, 2) := dk_55 6 (dk_at dksX4_sums_3 0 rfl rfl)
theorem dX4_sums_71 : decode cX4_sums 71 = .ok (.iinc 8 1, 3) := dk_132 8 1 (dk_at dksX4_sums_3 2 rfl rfl)
theorem dX4_sums_74 : decode cX4_sums 74 = .ok (.goto (-55), 3) := dk_167 255 201 (dk_at dksX4_sums_3 5 rfl rfl)
theorem dX4_sums_77 : decode cX4_sums 77 = .ok (.aload_n 0, 1) := dk_42 (dk_at dksX4_sums_3 8 rfl rfl)
theorem dX4_sums_78 : decode cX4_sums 78 = .ok (.lload 4, 2) := dk_22 4 (dk_at dksX4_sums_3 9 rfl rfl)
theorem dX4_sums_80 : decode cX4_sums 80 = .ok (.lload 6, 2) := dk_22 6 (dk_at dksX4_sums_3 11 rfl rfl)
theorem dX4_sums_82 : decode cX4_sums 82 = .ok (.invokevirtual 107, 3) := dk_182 0 107 (dk_at dksX4_sums_3 13 rfl rfl)
theorem dX4_sums_85 : decode cX4_sums 85 = .ok (.return_, 1) := dk_177 (dk_at dksX4_sums_3 16 rfl rfl)
def dkwX4_windows_3 : List UInt8 := [180, 0, 96, 182, 0, 164, 42, 42, 180, 0, 100, 182, 0, 164, 132, 4, 1, 167, 255, 223, 29, 172]
abbrev dktX4_windows_3 : List UInt8 := dkwX4_windows_3 ++ []
def dkwX4_windows_2 : List UInt8 := [181, 0, 11, 3, 54, 4, 21, 4, 29, 162, 0, 33, 42, 27, 21, 4, 28, 182, 1, 24, 42, 42]
abbrev dktX4_windows_2 : List UInt8 := dkwX4_windows_2 ++ dktX4_windows_3
def dkwX4_windows_1 : List UInt8 := [2, 172, 42, 27, 182, 0, 187, 28, 100, 4, 96, 62, 29, 4, 162, 0, 6, 16, 254, 172, 42, 3]
abbrev dktX4_windows_1 : List UInt8 := dkwX4_windows_1 ++ dktX4_windows_2
def dkwX4_windows_0 : List UInt8 := [42, 3, 181, 0, 1, 27, 184, 0, 237, 153, 0, 15, 28, 133, 10, 20, 1, 10, 184, 0, 21, 154, 0, 5]
abbrev dktX4_windows_0 : List UInt8 := dkwX4_windows_0 ++ dktX4_windows_1
theorem dksX4_windows_0 : cX4_windows.data.toList.drop 0 = dktX4_windows_0 := by decide +kernel
theorem dksX4_windows_1 : cX4_windows.data.toList.drop 24 = dktX4_windows_1 := dk_seg dksX4_windows_0 24 rfl rfl
theorem dksX4_windows_2 : cX4_windows.data.toList.drop 46 = dktX4_windows_2 := dk_seg dksX4_windows_1 22 rfl rfl
theorem dksX4_windows_3 : cX4_windows.data.toList.drop 68 = dktX4_windows_3 := dk_seg dksX4_windows_2 22 rfl rfl
theorem dX4_windows_0 : decode cX4_windows 0 = .ok (.aload_n 0, 1) := dk_42 (dk_at dksX4_windows_0 0 rfl rfl)
theorem dX4_windows_1 : decode cX4_windows 1 = .ok (.iconst 0, 1) := dk_3 (dk_at dksX4_windows_0 1 rfl rfl)
theorem dX4_windows_2 : decode cX4_windows 2 = .ok (.putfield 1, 3) := dk_181 0 1 (dk_at dksX4_windows_0 2 rfl rfl)
theorem dX4_windows_5 : decode cX4_windows 5 = .ok (.iload_n 1, 1) := dk_27 (dk_at dksX4_windows_0 5 rfl rfl)
theorem dX4_windows_6 : decode cX4_windows 6 = .ok (.invokestatic 237, 3) := dk_184 0 237 (dk_at dksX4_windows_0 6 rfl rfl)
theorem dX4_windows_9 : decode cX4_windows 9 = .ok (.ifCond .eq 15, 3) := dk_153 0 15 (dk_at dksX4_windows_0 9 rfl rfl)
theorem dX4_windows_12 : decode cX4_windows 12 = .ok (.iload_n 2, 1) := dk_28 (dk_at dksX4_windows_0 12 rfl rfl)
theorem dX4_windows_13 : decode cX4_windows 13 = .ok (.i2l, 1) := dk_133 (dk_at dksX4_windows_0 13 rfl rfl)
theorem dX4_windows_14 : decode cX4_windows 14 = .ok (.lconst 1, 1) := dk_10 (dk_at dksX4_windows_0 14 rfl rfl)
theorem dX4_windows_15 : decode cX4_windows 15 = .ok (.ldc2_w 266, 3) := dk_20 1 10 (dk_at dksX4_windows_0 15 rfl rfl)
theorem dX4_windows_18 : decode cX4_windows 18 = .ok (.invokestatic 21, 3) := dk_184 0 21 (dk_at dksX4_windows_0 18 rfl rfl)
theorem dX4_windows_21 : decode cX4_windows 21 = .ok (.ifCond .ne 5, 3) := dk_154 0 5 (dk_at dksX4_windows_0 21 rfl rfl)
theorem dX4_windows_24 : decode cX4_windows 24 = .ok (.iconst (-1), 1) := dk_2 (dk_at dksX4_windows_1 0 rfl rfl)
theorem dX4_windows_25 : decode cX4_windows 25 = .ok (.ireturn, 1) := dk_172 (dk_at dksX4_windows_1 1 rfl rfl)
theorem dX4_windows_26 : decode cX4_windows 26 = .ok (.aload_n 0, 1) := dk_42 (dk_at dksX4_windows_1 2 rfl rfl)
theorem dX4_windows_27 : decode cX4_windows 27 = .ok (.iload_n 1, 1) := dk_27 (dk_at dksX4_windows_1 3 rfl rfl)
theorem dX4_windows_28 : decode cX4_windows 28 = .ok (.invokevirtual 187, 3) := dk_182 0 187 (dk_at dksX4_windows_1 4 rfl rfl)
theorem dX4_windows_31 : decode cX4_windows 31 = .ok (.iload_n 2, 1) := dk_28 (dk_at dksX4_windows_1 7 rfl rfl)
theorem dX4_windows_32 : decode cX4_windows 32 = .ok (.isub, 1) := dk_100 (dk_at dksX4_windows_1 8 rfl rfl)
theorem dX4_windows_33 : decode cX4_windows 33 = .ok (.iconst 1, 1) := dk_4 (dk_at dksX4_windows_1 9 rfl rfl)
theorem dX4_windows_34 : decode cX4_windows 34 = .ok (.iadd, 1) := dk_96 (dk_at dksX4_windows_1 10 rfl rfl)
theorem dX4_windows_35 : decode cX4_windows 35 = .ok (.istore_n 3, 1) := dk_62 (dk_at dksX4_windows_1 11 rfl rfl)
theorem dX4_windows_36 : decode cX4_windows 36 = .ok (.iload_n 3, 1) := dk_29 (dk_at dksX4_windows_1 12 rfl rfl)
theorem dX4_windows_37 : decode cX4_windows 37 = .ok (.iconst 1, 1) := dk_4 (dk_at dksX4_windows_1 13 rfl rfl)
theorem dX4_windows_38 : decode cX4_windows 38 = .ok (.if_icmp .ge 6, 3) := dk_162 0 6 (dk_at dksX4_windows_1 14 rfl rfl)
theorem dX4_windows_41 : decode cX4_windows 41 = .ok (.bipush (-2), 2) := dk_16 254 (dk_at dksX4_windows_1 17 rfl rfl)
theorem dX4_windows_43 : decode cX4_windows 43 = .ok (.ireturn, 1) := dk_172 (dk_at dksX4_windows_1 19 rfl rfl)
theorem dX4_windows_44 : decode cX4_windows 44 = .ok (.aload_n 0, 1) := dk_42 (dk_at dksX4_windows_1 20 rfl rfl)
theorem dX4_windows_45 : decode cX4_windows 45 = .ok (.iconst 0, 1) := dk_3 (dk_at dksX4_windows_1 21 rfl rfl)
theorem dX4_windows_46 : decode cX4_windows 46 = .ok (.putfield 11, 3) := dk_181 0 11 (dk_at dksX4_windows_2 0 rfl rfl)
theorem dX4_windows_49 : decode cX4_windows 49 = .ok (.iconst 0, 1) := dk_3 (dk_at dksX4_windows_2 3 rfl rfl)
theorem dX4_windows_50 : decode cX4_windows 50 = .ok (.istore 4, 2) := dk_54 4 (dk_at dksX4_windows_2 4 rfl rfl)
theorem dX4_windows_52 : decode cX4_windows 52 = .ok (.iload 4, 2) := dk_21 4 (dk_at dksX4_windows_2 6 rfl rfl)
theorem dX4_windows_54 : decode cX4_windows 54 = .ok (.iload_n 3, 1) := dk_29 (dk_at dksX4_windows_2 8 rfl rfl)
theorem dX4_windows_55 : decode cX4_windows 55 = .ok (.if_icmp .ge 33, 3) := dk_162 0 33 (dk_at dksX4_windows_2 9 rfl rfl)
theorem dX4_windows_58 : decode cX4_windows 58 = .ok (.aload_n 0, 1) := dk_42 (dk_at dksX4_windows_2 12 rfl rfl)
theorem dX4_windows_59 : decode cX4_windows 59 = .ok (.iload_n 1, 1) := dk_27 (dk_at dksX4_windows_2 13 rfl rfl)
theorem dX4_windows_60 : decode cX4_windows 60 = .ok (.iload 4, 2) := dk_21 4 (dk_at dksX4_windows_2 14 rfl rfl)
theorem dX4_windows_62 : decode cX4_windows 62 = .ok (.iload_n 2, 1) := dk_28 (dk_at dksX4_windows_2 16 rfl rfl)
theorem dX4_windows_63 : decode cX4_windows 63 = .ok (.invokevirtual 280, 3) := dk_182 1 24 (dk_at dksX4_windows_2 17 rfl rfl)
theorem dX4_windows_66 : decode cX4_windows 66 = .ok (.aload_n 0, 1) := dk_42 (dk_at dksX4_windows_2 20 rfl rfl)
theorem dX4_windows_67 : decode cX4_windows 67 = .ok (.aload_n 0, 1) := dk_42 (dk_at dksX4_windows_2 21 rfl rfl)
theorem dX4_windows_68 : decode cX4_windows 68 = .ok (.getfield 96, 3) := dk_180 0 96 (dk_at dksX4_windows_3 0 rfl rfl)
theorem dX4_windows_71 : decode cX4_windows 71 = .ok (.invokevirtual 164, 3) := dk_182 0 164 (dk_at dksX4_windows_3 3 rfl rfl)
theorem dX4_windows_74 : decode cX4_windows 74 = .ok (.aload_n 0, 1) := dk_42 (dk_at dksX4_windows_3 6 rfl rfl)
theorem dX4_windows_75 : decode cX4_windows 75 = .ok (.aload_n 0, 1) := dk_42 (dk_at dksX4_windows_3 7 rfl rfl)
theorem dX4_windows_76 : decode cX4_windows 76 = .ok (.getfield 100, 3) := dk_180 0 100 (dk_at dksX4_windows_3 8 rfl rfl)
theorem dX4_windows_79 : decode cX4_windows 79 = .ok (.invokevirtual 164, 3) := dk_182 0 164 (dk_at dksX4_windows_3 11 rfl rfl)
theorem dX4_windows_82 : decode cX4_windows 82 = .ok (.iinc 4 1, 3) := dk_132 4 1 (dk_at dksX4_windows_3 14 rfl rfl)
theorem dX4_windows_85 : decode cX4_windows 85 = .ok (.goto (-33), 3) := dk_167 255 223 (dk_at dksX4_windows_3 17 rfl rfl)
theorem dX4_windows_88 : decode cX4_windows 88 = .ok (.iload_n 3, 1) := dk_29 (dk_at dksX4_windows_3 20 rfl rfl)
theorem dX4_windows_89 : decode cX4_windows 89 = .ok (.ireturn, 1) := dk_172 (dk_at dksX4_windows_3 21 rfl rfl)
def dkwX4_first_3 : List UInt8 := [167, 255, 204, 16, 254, 172]
abbrev dktX4_first_3 : List UInt8 := dkwX4_first_3 ++ []
def dkwX4_first_2 : List UInt8 := [181, 0, 11, 42, 42, 180, 0, 96, 182, 0, 164, 42, 42, 180, 0, 100, 182, 0, 164, 29, 172, 132, 3, 1]
abbrev dktX4_first_2 : List UInt8 := dkwX4_first_2 ++ dktX4_first_3
def dkwX4_first_1 : List UInt8 := [163, 0, 49, 42, 27, 3, 29, 182, 1, 24, 42, 180, 0, 96, 28, 133, 148, 155, 0, 26, 42, 3]
abbrev dktX4_first_1 : List UInt8 := dkwX4_first_1 ++ dktX4_first_2
def dkwX4_first_0 : List UInt8 := [42, 3, 181, 0, 1, 27, 184, 0, 237, 154, 0, 5, 2, 172, 4, 62, 29, 42, 27, 182, 0, 187]
abbrev dktX4_first_0 : List UInt8 := dkwX4_first_0 ++ dktX4_first_1
theorem dksX4_first_0 : cX4_first.data.toList.drop 0 = dktX4_first_0 := by decide +kernel
theorem dksX4_first_1 : cX4_first.data.toList.drop 22 = dktX4_first_1 := dk_seg dksX4_first_0 22 rfl rfl
theorem dksX4_first_2 : cX4_first.data.toList.drop 44 = dktX4_first_2 := dk_seg dksX4_first_1 22 rfl rfl
theorem dksX4_first_3 : cX4_first.data.toList.drop 68 = dktX4_first_3 := dk_seg dksX4_first_2 24 rfl rfl
theorem dX4_first_0 : decode cX4_first 0 = .ok (.aload_n 0, 1) := dk_42 (dk_at dksX4_first_0 0 rfl rfl)
theorem dX4_first_1 : decode cX4_first 1 = .ok (.iconst 0, 1) := dk_3 (dk_at dksX4_first_0 1 rfl rfl)
theorem dX4_first_2 : decode cX4_first 2 = .ok (.putfield 1, 3) := dk_181 0 1 (dk_at dksX4_first_0 2 rfl rfl)
theorem dX4_first_5 : decode cX4_first 5 = .ok (.iload_n 1, 1) := dk_27 (dk_at dksX4_first_0 5 rfl rfl)
theorem dX4_first_6 : decode cX4_first 6 = .ok (.invokestatic 237, 3) := dk_184 0 237 (dk_at dksX4_first_0 6 rfl rfl)
theorem dX4_first_9 : decode cX4_first 9 = .ok (.ifCond .ne 5, 3) := dk_154 0 5 (dk_at dksX4_first_0 9 rfl rfl)
theorem dX4_first_12 : decode cX4_first 12 = .ok (.iconst (-1), 1) := dk_2 (dk_at dksX4_first_0 12 rfl rfl)
theorem dX4_first_13 : decode cX4_first 13 = .ok (.ireturn, 1) := dk_172 (dk_at dksX4_first_0 13 rfl rfl)
theorem dX4_first_14 : decode cX4_first 14 = .ok (.iconst 1, 1) := dk_4 (dk_at dksX4_first_0 14 rfl rfl)
theorem dX4_first_15 : decode cX4_first 15 = .ok (.istore_n 3, 1) := dk_62 (dk_at dksX4_first_0 15 rfl rfl)
theorem dX4_first_16 : decode cX4_first 16 = .ok (.iload_n 3, 1) := dk_29 (dk_at dksX4_first_0 16 rfl rfl)
theorem dX4_first_17 : decode cX4_first 17 = .ok (.aload_n 0, 1) := dk_42 (dk_at dksX4_first_0 17 rfl rfl)
theorem dX4_first_18 : decode cX4_first 18 = .ok (.iload_n 1, 1) := dk_27 (dk_at dksX4_first_0 18 rfl rfl)
theorem dX4_first_19 : decode cX4_first 19 = .ok (.invokevirtual 187, 3) := dk_182 0 187 (dk_at dksX4_first_0 19 rfl rfl)
theorem dX4_first_22 : decode cX4_first 22 = .ok (.if_icmp .gt 49, 3) := dk_163 0 49 (dk_at dksX4_first_1 0 rfl rfl)
theorem dX4_first_25 : decode cX4_first 25 = .ok (.aload_n 0, 1) := dk_42 (dk_at dksX4_first_1 3 rfl rfl)
theorem dX4_first_26 : decode cX4_first 26 = .ok (.iload_n 1, 1) := dk_27 (dk_at dksX4_first_1 4 rfl rfl)
theorem dX4_first_27 : decode cX4_first 27 = .ok (.iconst 0, 1) := dk_3 (dk_at dksX4_first_1 5 rfl rfl)
theorem dX4_first_28 : decode cX4_first 28 = .ok (.iload_n 3, 1) := dk_29 (dk_at dksX4_first_1 6 rfl rfl)
theorem dX4_first_29 : decode cX4_first 29 = .ok (.invokevirtual 280, 3) := dk_182 1 24 (dk_at dksX4_first_1 7 rfl rfl)
theorem dX4_first_32 : decode cX4_first 32 = .ok (.aload_n 0, 1) := dk_42 (dk_at dksX4_first_1 10 rfl rfl)
theorem dX4_first_33 : decode cX4_first 33 = .ok (.getfield 96, 3) := dk_180 0 96 (dk_at dksX4_first_1 11 rfl rfl)
theorem dX4_first_36 : decode cX4_first 36 = .ok (.iload_n 2, 1) := dk_28 (dk_at dksX4_first_1 14 rfl rfl)
theorem dX4_first_37 : decode cX4_first 37 = .ok (.i2l, 1) := dk_133 (dk_at dksX4_first_1 15 rfl rfl)
theorem dX4_first_38 : decode cX4_first 38 = .ok (.lcmp, 1) := dk_148 (dk_at dksX4_first_1 16 rfl rfl)
theorem dX4_first_39 : decode cX4_first 39 = .ok (.ifCond .lt 26, 3) := dk_155 0 26 (dk_at dksX4_first_1 17 rfl rfl)
theorem dX4_first_42 : decode cX4_first 42 = .ok (.aload_n 0, 1) := dk_42 (dk_at dksX4_first_1 20 rfl rfl)
theorem dX4_first_43 : decode cX4_first 43 = .ok (.iconst 0, 1) := dk_3 (dk_at dksX4_first_1 21 rfl rfl)
theorem dX4_first_44 : decode cX4_first 44 = .ok (.putfield 11, 3) := dk_181 0 11 (dk_at dksX4_first_2 0 rfl rfl)
theorem dX4_first_47 : decode cX4_first 47 = .ok (.aload_n 0, 1) := dk_42 (dk_at dksX4_first_2 3 rfl rfl)
theorem dX4_first_48 : decode cX4_first 48 = .ok (.aload_n 0, 1) := dk_42 (dk_at dksX4_first_2 4 rfl rfl)
theorem dX4_first_49 : decode cX4_first 49 = .ok (.getfield 96, 3) := dk_180 0 96 (dk_at dksX4_first_2 5 rfl rfl)
theorem dX4_first_52 : decode cX4_first 52 = .ok (.invokevirtual 164, 3) := dk_182 0 164 (dk_at dksX4_first_2 8 rfl rfl)
theorem dX4_first_55 : decode cX4_first 55 = .ok (.aload_n 0, 1) := dk_42 (dk_at dksX4_first_2 11 rfl rfl)
theorem dX4_first_56 : decode cX4_first 56 = .ok (.aload_n 0, 1) := dk_42 (dk_at dksX4_first_2 12 rfl rfl)
theorem dX4_first_57 : decode cX4_first 57 = .ok (.getfield 100, 3) := dk_180 0 100 (dk_at dksX4_first_2 13 rfl rfl)
theorem dX4_first_60 : decode cX4_first 60 = .ok (.invokevirtual 164, 3) := dk_182 0 164 (dk_at dksX4_first_2 16 rfl rfl)
theorem dX4_first_63 : decode cX4_first 63 = .ok (.iload_n 3, 1) := dk_29 (dk_at dksX4_first_2 19 rfl rfl)
theorem dX4_first_64 : decode cX4_first 64 = .ok (.ireturn, 1) := dk_172 (dk_at dksX4_first_2 20 rfl rfl)
theorem dX4_first_65 : decode cX4_first 65 = .ok (.iinc 3 1, 3) := dk_132 3 1 (dk_at dksX4_first_2 21 rfl rfl)
theorem dX4_first_68 : decode cX4_first 68 = .ok (.goto (-52), 3) := dk_167 255 204 (dk_at dksX4_first_3 0 rfl rfl)
theorem dX4_first_71 : decode cX4_first 71 = .ok (.bipush (-2), 2) := dk_16 254 (dk_at dksX4_first_3 3 rfl rfl)
theorem dX4_first_73 : decode cX4_first 73 = .ok (.ireturn, 1) := dk_172 (dk_at dksX4_first_3 5 rfl rfl)
def dkwX4_longest_4 : List UInt8 := [182, 0, 164, 3, 172]
abbrev dktX4_longest_4 : List UInt8 := dkwX4_longest_4 ++ []
def dkwX4_longest_3 : List UInt8 := [182, 0, 164, 21, 4, 172, 132, 5, 1, 167, 255, 215, 132, 4, 255, 167, 255, 201, 42, 20, 0, 105]
abbrev dktX4_longest_3 : List UInt8 := dkwX4_longest_3 ++ dktX4_longest_4
def dkwX4_longest_2 : List UInt8 := [27, 21, 5, 21, 4, 182, 1, 24, 42, 180, 0, 96, 28, 133, 148, 157, 0, 13, 42, 21, 5, 133]
abbrev dktX4_longest_2 : List UInt8 := dkwX4_longest_2 ++ dktX4_longest_3
def dkwX4_longest_1 : List UInt8 := [181, 0, 11, 29, 54, 4, 21, 4, 158, 0, 56, 3, 54, 5, 21, 5, 21, 4, 96, 29, 163, 0, 38, 42]
abbrev dktX4_longest_1 : List UInt8 := dkwX4_longest_1 ++ dktX4_longest_2
def dkwX4_longest_0 : List UInt8 := [42, 3, 181, 0, 1, 27, 184, 0, 237, 154, 0, 5, 2, 172, 42, 27, 182, 0, 187, 62, 42, 3]
abbrev dktX4_longest_0 : List UInt8 := dkwX4_longest_0 ++ dktX4_longest_1
theorem dksX4_longest_0 : cX4_longest.data.toList.drop 0 = dktX4_longest_0 := by decide +kernel
theorem dksX4_longest_1 : cX4_longest.data.toList.drop 22 = dktX4_longest_1 := dk_seg dksX4_longest_0 22 rfl rfl
theorem dksX4_longest_2 : cX4_longest.data.toList.drop 46 = dktX4_longest_2 := dk_seg dksX4_longest_1 24 rfl rfl
theorem dksX4_longest_3 : cX4_longest.data.toList.drop 68 = dktX4_longest_3 := dk_seg dksX4_longest_2 22 rfl rfl
theorem dksX4_longest_4 : cX4_longest.data.toList.drop 90 = dktX4_longest_4 := dk_seg dksX4_longest_3 22 rfl rfl
theorem dX4_longest_0 : decode cX4_longest 0 = .ok (.aload_n 0, 1) := dk_42 (dk_at dksX4_longest_0 0 rfl rfl)
theorem dX4_longest_1 : decode cX4_longest 1 = .ok (.iconst 0, 1) := dk_3 (dk_at dksX4_longest_0 1 rfl rfl)
theorem dX4_longest_2 : decode cX4_longest 2 = .ok (.putfield 1, 3) := dk_181 0 1 (dk_at dksX4_longest_0 2 rfl rfl)
theorem dX4_longest_5 : decode cX4_longest 5 = .ok (.iload_n 1, 1) := dk_27 (dk_at dksX4_longest_0 5 rfl rfl)
theorem dX4_longest_6 : decode cX4_longest 6 = .ok (.invokestatic 237, 3) := dk_184 0 237 (dk_at dksX4_longest_0 6 rfl rfl)
theorem dX4_longest_9 : decode cX4_longest 9 = .ok (.ifCond .ne 5, 3) := dk_154 0 5 (dk_at dksX4_longest_0 9 rfl rfl)
theorem dX4_longest_12 : decode cX4_longest 12 = .ok (.iconst (-1), 1) := dk_2 (dk_at dksX4_longest_0 12 rfl rfl)
theorem dX4_longest_13 : decode cX4_longest 13 = .ok (.ireturn, 1) := dk_172 (dk_at dksX4_longest_0 13 rfl rfl)
theorem dX4_longest_14 : decode cX4_longest 14 = .ok (.aload_n 0, 1) := dk_42 (dk_at dksX4_longest_0 14 rfl rfl)
theorem dX4_longest_15 : decode cX4_longest 15 = .ok (.iload_n 1, 1) := dk_27 (dk_at dksX4_longest_0 15 rfl rfl)
theorem dX4_longest_16 : decode cX4_longest 16 = .ok (.invokevirtual 187, 3) := dk_182 0 187 (dk_at dksX4_longest_0 16 rfl rfl)
theorem dX4_longest_19 : decode cX4_longest 19 = .ok (.istore_n 3, 1) := dk_62 (dk_at dksX4_longest_0 19 rfl rfl)
theorem dX4_longest_20 : decode cX4_longest 20 = .ok (.aload_n 0, 1) := dk_42 (dk_at dksX4_longest_0 20 rfl rfl)
theorem dX4_longest_21 : decode cX4_longest 21 = .ok (.iconst 0, 1) := dk_3 (dk_at dksX4_longest_0 21 rfl rfl)
theorem dX4_longest_22 : decode cX4_longest 22 = .ok (.putfield 11, 3) := dk_181 0 11 (dk_at dksX4_longest_1 0 rfl rfl)
theorem dX4_longest_25 : decode cX4_longest 25 = .ok (.iload_n 3, 1) := dk_29 (dk_at dksX4_longest_1 3 rfl rfl)
theorem dX4_longest_26 : decode cX4_longest 26 = .ok (.istore 4, 2) := dk_54 4 (dk_at dksX4_longest_1 4 rfl rfl)
theorem dX4_longest_28 : decode cX4_longest 28 = .ok (.iload 4, 2) := dk_21 4 (dk_at dksX4_longest_1 6 rfl rfl)
theorem dX4_longest_30 : decode cX4_longest 30 = .ok (.ifCond .le 56, 3) := dk_158 0 56 (dk_at dksX4_longest_1 8 rfl rfl)
theorem dX4_longest_33 : decode cX4_longest 33 = .ok (.iconst 0, 1) := dk_3 (dk_at dksX4_longest_1 11 rfl rfl)
theorem dX4_longest_34 : decode cX4_longest 34 = .ok (.istore 5, 2) := dk_54 5 (dk_at dksX4_longest_1 12 rfl rfl)
theorem dX4_longest_36 : decode cX4_longest 36 = .ok (.iload 5, 2) := dk_21 5 (dk_at dksX4_longest_1 14 rfl rfl)
theorem dX4_longest_38 : decode cX4_longest 38 = .ok (.iload 4, 2) := dk_21 4 (dk_at dksX4_longest_1 16 rfl rfl)
theorem dX4_longest_40 : decode cX4_longest 40 = .ok (.iadd, 1) := dk_96 (dk_at dksX4_longest_1 18 rfl rfl)
theorem dX4_longest_41 : decode cX4_longest 41 = .ok (.iload_n 3, 1) := dk_29 (dk_at dksX4_longest_1 19 rfl rfl)
theorem dX4_longest_42 : decode cX4_longest 42 = .ok (.if_icmp .gt 38, 3) := dk_163 0 38 (dk_at dksX4_longest_1 20 rfl rfl)
theorem dX4_longest_45 : decode cX4_longest 45 = .ok (.aload_n 0, 1) := dk_42 (dk_at dksX4_longest_1 23 rfl rfl)
theorem dX4_longest_46 : decode cX4_longest 46 = .ok (.iload_n 1, 1) := dk_27 (dk_at dksX4_longest_2 0 rfl rfl)
theorem dX4_longest_47 : decode cX4_longest 47 = .ok (.iload 5, 2) := dk_21 5 (dk_at dksX4_longest_2 1 rfl rfl)
theorem dX4_longest_49 : decode cX4_longest 49 = .ok (.iload 4, 2) := dk_21 4 (dk_at dksX4_longest_2 3 rfl rfl)
theorem dX4_longest_51 : decode cX4_longest 51 = .ok (.invokevirtual 280, 3) := dk_182 1 24 (dk_at dksX4_longest_2 5 rfl rfl)
theorem dX4_longest_54 : decode cX4_longest 54 = .ok (.aload_n 0, 1) := dk_42 (dk_at dksX4_longest_2 8 rfl rfl)
theorem dX4_longest_55 : decode cX4_longest 55 = .ok (.getfield 96, 3) := dk_180 0 96 (dk_at dksX4_longest_2 9 rfl rfl)
theorem dX4_longest_58 : decode cX4_longest 58 = .ok (.iload_n 2, 1) := dk_28 (dk_at dksX4_longest_2 12 rfl rfl)
theorem dX4_longest_59 : decode cX4_longest 59 = .ok (.i2l, 1) := dk_133 (dk_at dksX4_longest_2 13 rfl rfl)
theorem dX4_longest_60 : decode cX4_longest 60 = .ok (.lcmp, 1) := dk_148 (dk_at dksX4_longest_2 14 rfl rfl)
theorem dX4_longest_61 : decode cX4_longest 61 = .ok (.ifCond .gt 13, 3) := dk_157 0 13 (dk_at dksX4_longest_2 15 rfl rfl)
theorem dX4_longest_64 : decode cX4_longest 64 = .ok (.aload_n 0, 1) := dk_42 (dk_at dksX4_longest_2 18 rfl rfl)
theorem dX4_longest_65 : decode cX4_longest 65 = .ok (.iload 5, 2) := dk_21 5 (dk_at dksX4_longest_2 19 rfl rfl)
theorem dX4_longest_67 : decode cX4_longest 67 = .ok (.i2l, 1) := dk_133 (dk_at dksX4_longest_2 21 rfl rfl)
theorem dX4_longest_68 : decode cX4_longest 68 = .ok (.invokevirtual 164, 3) := dk_182 0 164 (dk_at dksX4_longest_3 0 rfl rfl)
theorem dX4_longest_71 : decode cX4_longest 71 = .ok (.iload 4, 2) := dk_21 4 (dk_at dksX4_longest_3 3 rfl rfl)
theorem dX4_longest_73 : decode cX4_longest 73 = .ok (.ireturn, 1) := dk_172 (dk_at dksX4_longest_3 5 rfl rfl)
theorem dX4_longest_74 : decode cX4_longest 74 = .ok (.iinc 5 1, 3) := dk_132 5 1 (dk_at dksX4_longest_3 6 rfl rfl)
theorem dX4_longest_77 : decode cX4_longest 77 = .ok (.goto (-41), 3) := dk_167 255 215 (dk_at dksX4_longest_3 9 rfl rfl)
theorem dX4_longest_80 : decode cX4_longest 80 = .ok (.iinc 4 (-1), 3) := dk_132 4 255 (dk_at dksX4_longest_3 12 rfl rfl)
theorem dX4_longest_83 : decode cX4_longest 83 = .ok (.goto (-55), 3) := dk_167 255 201 (dk_at dksX4_longest_3 15 rfl rfl)
theorem dX4_longest_86 : decode cX4_longest 86 = .ok (.aload_n 0, 1) := dk_42 (dk_at dksX4_longest_3 18 rfl rfl)
theorem dX4_longest_87 : decode cX4_longest 87 = .ok (.ldc2_w 105, 3) := dk_20 0 105 (dk_at dksX4_longest_3 19 rfl rfl)
theorem dX4_longest_90 : decode cX4_longest 90 = .ok (.invokevirtual 164, 3) := dk_182 0 164 (dk_at dksX4_longest_4 0 rfl rfl)
theorem dX4_longest_93 : decode cX4_longest 93 = .ok (.iconst 0, 1) := dk_3 (dk_at dksX4_longest_4 3 rfl rfl)
theorem dX4_longest_94 : decode cX4_longest 94 = .ok (.ireturn, 1) := dk_172 (dk_at dksX4_longest_4 4 rfl rfl)
def dkwX4_greatest_5 : List UInt8 := [22, 7, 182, 0, 164, 21, 4, 172]
abbrev dktX4_greatest_5 : List UInt8 := dkwX4_greatest_5 ++ []
def dkwX4_greatest_4 : List UInt8 := [180, 0, 100, 55, 7, 132, 9, 1, 167, 255, 208, 42, 3, 181, 0, 11, 42, 22, 5, 182, 0, 164, 42]
abbrev dktX4_greatest_4 : List UInt8 := dkwX4_greatest_4 ++ dktX4_greatest_5
def dkwX4_greatest_3 : List UInt8 := [153, 0, 13, 42, 180, 0, 100, 22, 7, 148, 158, 0, 19, 21, 9, 54, 4, 42, 180, 0, 96, 55, 5, 42]
abbrev dktX4_greatest_3 : List UInt8 := dkwX4_greatest_3 ++ dktX4_greatest_4
def dkwX4_greatest_2 : List UInt8 := [55, 5, 9, 55, 7, 3, 54, 9, 21, 9, 29, 162, 0, 48, 42, 27, 21, 9, 28, 182, 1, 24, 21, 9]
abbrev dktX4_greatest_2 : List UInt8 := dkwX4_greatest_2 ++ dktX4_greatest_3
def dkwX4_greatest_1 : List UInt8 := [2, 172, 42, 27, 182, 0, 187, 28, 100, 4, 96, 62, 29, 4, 162, 0, 6, 16, 254, 172, 3, 54, 4, 9]
abbrev dktX4_greatest_1 : List UInt8 := dkwX4_greatest_1 ++ dktX4_greatest_2
def dkwX4_greatest_0 : List UInt8 := [42, 3, 181, 0, 1, 27, 184, 0, 237, 153, 0, 15, 28, 133, 10, 20, 1, 10, 184, 0, 21, 154, 0, 5]
abbrev dktX4_greatest_0 : List UInt8 := dkwX4_greatest_0 ++ dktX4_greatest_1
theorem dksX4_greatest_0 : cX4_greatest.data.toList.drop 0 = dktX4_greatest_0 := by decide +kernel
theorem dksX4_greatest_1 : cX4_greatest.data.toList.drop 24 = dktX4_greatest_1 := dk_seg dksX4_greatest_0 24 rfl rfl
theorem dksX4_greatest_2 : cX4_greatest.data.toList.drop 48 = dktX4_greatest_2 := dk_seg dksX4_greatest_1 24 rfl rfl
theorem dksX4_greatest_3 : cX4_greatest.data.toList.drop 72 = dktX4_greatest_3 := dk_seg dksX4_greatest_2 24 rfl rfl
theorem dksX4_greatest_4 : cX4_greatest.data.toList.drop 96 = dktX4_greatest_4 := dk_seg dksX4_greatest_3 24 rfl rfl
theorem dksX4_greatest_5 : cX4_greatest.data.toList.drop 119 = dktX4_greatest_5 := dk_seg dksX4_greatest_4 23 rfl rfl
theorem dX4_greatest_0 : decode cX4_greatest 0 = .ok (.aload_n 0, 1) := dk_42 (dk_at dksX4_greatest_0 0 rfl rfl)
theorem dX4_greatest_1 : decode cX4_greatest 1 = .ok (.iconst 0, 1) := dk_3 (dk_at dksX4_greatest_0 1 rfl rfl)
theorem dX4_greatest_2 : decode cX4_greatest 2 = .ok (.putfield 1, 3) := dk_181 0 1 (dk_at dksX4_greatest_0 2 rfl rfl)
theorem dX4_greatest_5 : decode cX4_greatest 5 = .ok (.iload_n 1, 1) := dk_27 (dk_at dksX4_greatest_0 5 rfl rfl)
theorem dX4_greatest_6 : decode cX4_greatest 6 = .ok (.invokestatic 237, 3) := dk_184 0 237 (dk_at dksX4_greatest_0 6 rfl rfl)
theorem dX4_greatest_9 : decode cX4_greatest 9 = .ok (.ifCond .eq 15, 3) := dk_153 0 15 (dk_at dksX4_greatest_0 9 rfl rfl)
theorem dX4_greatest_12 : decode cX4_greatest 12 = .ok (.iload_n 2, 1) := dk_28 (dk_at dksX4_greatest_0 12 rfl rfl)
theorem dX4_greatest_13 : decode cX4_greatest 13 = .ok (.i2l, 1) := dk_133 (dk_at dksX4_greatest_0 13 rfl rfl)
theorem dX4_greatest_14 : decode cX4_greatest 14 = .ok (.lconst 1, 1) := dk_10 (dk_at dksX4_greatest_0 14 rfl rfl)
theorem dX4_greatest_15 : decode cX4_greatest 15 = .ok (.ldc2_w 266, 3) := dk_20 1 10 (dk_at dksX4_greatest_0 15 rfl rfl)
theorem dX4_greatest_18 : decode cX4_greatest 18 = .ok (.invokestatic 21, 3) := dk_184 0 21 (dk_at dksX4_greatest_0 18 rfl rfl)
theorem dX4_greatest_21 : decode cX4_greatest 21 = .ok (.ifCond .ne 5, 3) := dk_154 0 5 (dk_at dksX4_greatest_0 21 rfl rfl)
theorem dX4_greatest_24 : decode cX4_greatest 24 = .ok (.iconst (-1), 1) := dk_2 (dk_at dksX4_greatest_1 0 rfl rfl)
theorem dX4_greatest_25 : decode cX4_greatest 25 = .ok (.ireturn, 1) := dk_172 (dk_at dksX4_greatest_1 1 rfl rfl)
theorem dX4_greatest_26 : decode cX4_greatest 26 = .ok (.aload_n 0, 1) := dk_42 (dk_at dksX4_greatest_1 2 rfl rfl)
theorem dX4_greatest_27 : decode cX4_greatest 27 = .ok (.iload_n 1, 1) := dk_27 (dk_at dksX4_greatest_1 3 rfl rfl)
theorem dX4_greatest_28 : decode cX4_greatest 28 = .ok (.invokevirtual 187, 3) := dk_182 0 187 (dk_at dksX4_greatest_1 4 rfl rfl)
theorem dX4_greatest_31 : decode cX4_greatest 31 = .ok (.iload_n 2, 1) := dk_28 (dk_at dksX4_greatest_1 7 rfl rfl)
theorem dX4_greatest_32 : decode cX4_greatest 32 = .ok (.isub, 1) := dk_100 (dk_at dksX4_greatest_1 8 rfl rfl)
theorem dX4_greatest_33 : decode cX4_greatest 33 = .ok (.iconst 1, 1) := dk_4 (dk_at dksX4_greatest_1 9 rfl rfl)
theorem dX4_greatest_34 : decode cX4_greatest 34 = .ok (.iadd, 1) := dk_96 (dk_at dksX4_greatest_1 10 rfl rfl)
theorem dX4_greatest_35 : decode cX4_greatest 35 = .ok (.istore_n 3, 1) := dk_62 (dk_at dksX4_greatest_1 11 rfl rfl)
theorem dX4_greatest_36 : decode cX4_greatest 36 = .ok (.iload_n 3, 1) := dk_29 (dk_at dksX4_greatest_1 12 rfl rfl)
theorem dX4_greatest_37 : decode cX4_greatest 37 = .ok (.iconst 1, 1) := dk_4 (dk_at dksX4_greatest_1 13 rfl rfl)
theorem dX4_greatest_38 : decode cX4_greatest 38 = .ok (.if_icmp .ge 6, 3) := dk_162 0 6 (dk_at dksX4_greatest_1 14 rfl rfl)
theorem dX4_greatest_41 : decode cX4_greatest 41 = .ok (.bipush (-2), 2) := dk_16 254 (dk_at dksX4_greatest_1 17 rfl rfl)
theorem dX4_greatest_43 : decode cX4_greatest 43 = .ok (.ireturn, 1) := dk_172 (dk_at dksX4_greatest_1 19 rfl rfl)
theorem dX4_greatest_44 : decode cX4_greatest 44 = .ok (.iconst 0, 1) := dk_3 (dk_at dksX4_greatest_1 20 rfl rfl)
theorem dX4_greatest_45 : decode cX4_greatest 45 = .ok (.istore 4, 2) := dk_54 4 (dk_at dksX4_greatest_1 21 rfl rfl)
theorem dX4_greatest_47 : decode cX4_greatest 47 = .ok (.lconst 0, 1) := dk_9 (dk_at dksX4_greatest_1 23 rfl rfl)
theorem dX4_greatest_48 : decode cX4_greatest 48 = .ok (.lstore 5, 2) := dk_55 5 (dk_at dksX4_greatest_2 0 rfl rfl)
theorem dX4_greatest_50 : decode cX4_greatest 50 = .ok (.lconst 0, 1) := dk_9 (dk_at dksX4_greatest_2 2 rfl rfl)
theorem dX4_greatest_51 : decode cX4_greatest 51 = .ok (.lstore 7, 2) := dk_55 7 (dk_at dksX4_greatest_2 3 rfl rfl)
theorem dX4_greatest_53 : decode cX4_greatest 53 = .ok (.iconst 0, 1) := dk_3 (dk_at dksX4_greatest_2 5 rfl rfl)
theorem dX4_greatest_54 : decode cX4_greatest 54 = .ok (.istore 9, 2) := dk_54 9 (dk_at dksX4_greatest_2 6 rfl rfl)
theorem dX4_greatest_56 : decode cX4_greatest 56 = .ok (.iload 9, 2) := dk_21 9 (dk_at dksX4_greatest_2 8 rfl rfl)
theorem dX4_greatest_58 : decode cX4_greatest 58 = .ok (.iload_n 3, 1) := dk_29 (dk_at dksX4_greatest_2 10 rfl rfl)
theorem dX4_greatest_59 : decode cX4_greatest 59 = .ok (.if_icmp .ge 48, 3) := dk_162 0 48 (dk_at dksX4_greatest_2 11 rfl rfl)
theorem dX4_greatest_62 : decode cX4_greatest 62 = .ok (.aload_n 0, 1) := dk_42 (dk_at dksX4_greatest_2 14 rfl rfl)
theorem dX4_greatest_63 : decode cX4_greatest 63 = .ok (.iload_n 1, 1) := dk_27 (dk_at dksX4_greatest_2 15 rfl rfl)
theorem dX4_greatest_64 : decode cX4_greatest 64 = .ok (.iload 9, 2) := dk_21 9 (dk_at dksX4_greatest_2 16 rfl rfl)
theorem dX4_greatest_66 : decode cX4_greatest 66 = .ok (.iload_n 2, 1) := dk_28 (dk_at dksX4_greatest_2 18 rfl rfl)
theorem dX4_greatest_67 : decode cX4_greatest 67 = .ok (.invokevirtual 280, 3) := dk_182 1 24 (dk_at dksX4_greatest_2 19 rfl rfl)
theorem dX4_greatest_70 : decode cX4_greatest 70 = .ok (.iload 9, 2) := dk_21 9 (dk_at dksX4_greatest_2 22 rfl rfl)
theorem dX4_greatest_72 : decode cX4_greatest 72 = .ok (.ifCond .eq 13, 3) := dk_153 0 13 (dk_at dksX4_greatest_3 0 rfl rfl)
theorem dX4_greatest_75 : decode cX4_greatest 75 = .ok (.aload_n 0, 1) := dk_42 (dk_at dksX4_greatest_3 3 rfl rfl)
theorem dX4_greatest_76 : decode cX4_greatest 76 = .ok (.getfield 100, 3) := dk_180 0 100 (dk_at dksX4_greatest_3 4 rfl rfl)
theorem dX4_greatest_79 : decode cX4_greatest 79 = .ok (.lload 7, 2) := dk_22 7 (dk_at dksX4_greatest_3 7 rfl rfl)
theorem dX4_greatest_81 : decode cX4_greatest 81 = .ok (.lcmp, 1) := dk_148 (dk_at dksX4_greatest_3 9 rfl rfl)
theorem dX4_greatest_82 : decode cX4_greatest 82 = .ok (.ifCond .le 19, 3) := dk_158 0 19 (dk_at dksX4_greatest_3 10 rfl rfl)
theorem dX4_greatest_85 : decode cX4_greatest 85 = .ok (.iload 9, 2) := dk_21 9 (dk_at dksX4_greatest_3 13 rfl rfl)
theorem dX4_greatest_87 : decode cX4_greatest 87 = .ok (.istore 4, 2) := dk_54 4 (dk_at dksX4_greatest_3 15 rfl rfl)
theorem dX4_greatest_89 : decode cX4_greatest 89 = .ok (.aload_n 0, 1) := dk_42 (dk_at dksX4_greatest_3 17 rfl rfl)
theorem dX4_greatest_90 : decode cX4_greatest 90 = .ok (.getfield 96, 3) := dk_180 0 96 (dk_at dksX4_greatest_3 18 rfl rfl)
theorem dX4_greatest_93 : decode cX4_greatest 93 = .ok (.lstore 5, 2) := dk_55 5 (dk_at dksX4_greatest_3 21 rfl rfl)
theorem dX4_greatest_95 : decode cX4_greatest 95 = .ok (.aload_n 0, 1) := dk_42 (dk_at dksX4_greatest_3 23 rfl rfl)
theorem dX4_greatest_96 : decode cX4_greatest 96 = .ok (.getfield 100, 3) := dk_180 0 100 (dk_at dksX4_greatest_4 0 rfl rfl)
theorem dX4_greatest_99 : decode cX4_greatest 99 = .ok (.lstore 7, 2) := dk_55 7 (dk_at dksX4_greatest_4 3 rfl rfl)
theorem dX4_greatest_101 : decode cX4_greatest 101 = .ok (.iinc 9 1, 3) := dk_132 9 1 (dk_at dksX4_greatest_4 5 rfl rfl)
theorem dX4_greatest_104 : decode cX4_greatest 104 = .ok (.goto (-48), 3) := dk_167 255 208 (dk_at dksX4_greatest_4 8 rfl rfl)
theorem dX4_greatest_107 : decode cX4_greatest 107 = .ok (.aload_n 0, 1) := dk_42 (dk_at dksX4_greatest_4 11 rfl rfl)
theorem dX4_greatest_108 : decode cX4_greatest 108 = .ok (.iconst 0, 1) := dk_3 (dk_at dksX4_greatest_4 12 rfl rfl)
theorem dX4_greatest_109 : decode cX4_greatest 109 = .ok (.putfield 11, 3) := dk_181 0 11 (dk_at dksX4_greatest_4 13 rfl rfl)
theorem dX4_greatest_112 : decode cX4_greatest 112 = .ok (.aload_n 0, 1) := dk_42 (dk_at dksX4_greatest_4 16 rfl rfl)
theorem dX4_greatest_113 : decode cX4_greatest 113 = .ok (.lload 5, 2) := dk_22 5 (dk_at dksX4_greatest_4 17 rfl rfl)
theorem dX4_greatest_115 : decode cX4_greatest 115 = .ok (.invokevirtual 164, 3) := dk_182 0 164 (dk_at dksX4_greatest_4 19 rfl rfl)
theorem dX4_greatest_118 : decode cX4_greatest 118 = .ok (.aload_n 0, 1) := dk_42 (dk_at dksX4_greatest_4 22 rfl rfl)
theorem dX4_greatest_119 : decode cX4_greatest 119 = .ok (.lload 7, 2) := dk_22 7 (dk_at dksX4_greatest_5 0 rfl rfl)
theorem dX4_greatest_121 : decode cX4_greatest 121 = .ok (.invokevirtual 164, 3) := dk_182 0 164 (dk_at dksX4_greatest_5 2 rfl rfl)
theorem dX4_greatest_124 : decode cX4_greatest 124 = .ok (.iload 4, 2) := dk_21 4 (dk_at dksX4_greatest_5 5 rfl rfl)
theorem dX4_greatest_126 : decode cX4_greatest 126 = .ok (.ireturn, 1) := dk_172 (dk_at dksX4_greatest_5 7 rfl rfl)
def dkwX4_finds_6 : List UInt8 := [21, 5, 172, 132, 5, 1, 167, 255, 135, 16, 254, 172]
abbrev dktX4_finds_6 : List UInt8 := dkwX4_finds_6 ++ []
def dkwX4_finds_5 : List UInt8 := [21, 7, 158, 0, 25, 42, 3, 181, 0, 11, 42, 21, 6, 133, 182, 0, 164, 42, 21, 7, 133, 182, 0, 164]
abbrev dktX4_finds_5 : List UInt8 := dkwX4_finds_5 ++ dktX4_finds_6
def dkwX4_finds_4 : List UInt8 := [167, 0, 5, 21, 6, 54, 6, 21, 7, 21, 9, 184, 0, 31, 96, 54, 7, 132, 8, 255, 167, 255, 188]
abbrev dktX4_finds_4 : List UInt8 := dkwX4_finds_4 ++ dktX4_finds_5
def dkwX4_finds_3 : List UInt8 := [180, 0, 100, 29, 133, 148, 154, 0, 7, 4, 167, 0, 4, 3, 54, 9, 21, 9, 153, 0, 8, 21, 8]
abbrev dktX4_finds_3 : List UInt8 := dkwX4_finds_3 ++ dktX4_finds_4
def dkwX4_finds_2 : List UInt8 := [155, 0, 69, 42, 27, 21, 8, 21, 5, 182, 1, 24, 42, 180, 0, 96, 28, 133, 148, 154, 0, 17, 42]
abbrev dktX4_finds_2 : List UInt8 := dkwX4_finds_2 ++ dktX4_finds_3
def dkwX4_finds_1 : List UInt8 := [21, 5, 21, 4, 163, 0, 120, 2, 54, 6, 3, 54, 7, 21, 4, 21, 5, 100, 54, 8, 21, 8]
abbrev dktX4_finds_1 : List UInt8 := dkwX4_finds_1 ++ dktX4_finds_2
def dkwX4_finds_0 : List UInt8 := [42, 3, 181, 0, 1, 27, 184, 0, 237, 154, 0, 5, 2, 172, 42, 27, 182, 0, 187, 54, 4, 4, 54, 5]
abbrev dktX4_finds_0 : List UInt8 := dkwX4_finds_0 ++ dktX4_finds_1
theorem dksX4_finds_0 : cX4_finds.data.toList.drop 0 = dktX4_finds_0 := by decide +kernel
theorem dksX4_finds_1 : cX4_finds.data.toList.drop 24 = dktX4_finds_1 := dk_seg dksX4_finds_0 24 rfl rfl
theorem dksX4_finds_2 : cX4_finds.data.toList.drop 46 = dktX4_finds_2 := dk_seg dksX4_finds_1 22 rfl rfl
theorem dksX4_finds_3 : cX4_finds.data.toList.drop 69 = dktX4_finds_3 := dk_seg dksX4_finds_2 23 rfl rfl
theorem dksX4_finds_4 : cX4_finds.data.toList.drop 92 = dktX4_finds_4 := dk_seg dksX4_finds_3 23 rfl rfl
theorem dksX4_finds_5 : cX4_finds.data.toList.drop 115 = dktX4_finds_5 := dk_seg dksX4_finds_4 23 rfl rfl
theorem dksX4_finds_6 : cX4_finds.data.toList.drop 139 = dktX4_finds_6 := dk_seg dksX4_finds_5 24 rfl rfl
theorem dX4_finds_0 : decode cX4_finds 0 = .ok (.aload_n 0, 1) := dk_42 (dk_at dksX4_finds_0 0 rfl rfl)
theorem dX4_finds_1 : decode cX4_finds 1 = .ok (.iconst 0, 1) := dk_3 (dk_at dksX4_finds_0 1 rfl rfl)
theorem dX4_finds_2 : decode cX4_finds 2 = .ok (.putfield 1, 3) := dk_181 0 1 (dk_at dksX4_finds_0 2 rfl rfl)
theorem dX4_finds_5 : decode cX4_finds 5 = .ok (.iload_n 1, 1) := dk_27 (dk_at dksX4_finds_0 5 rfl rfl)
theorem dX4_finds_6 : decode cX4_finds 6 = .ok (.invokestatic 237, 3) := dk_184 0 237 (dk_at dksX4_finds_0 6 rfl rfl)
theorem dX4_finds_9 : decode cX4_finds 9 = .ok (.ifCond .ne 5, 3) := dk_154 0 5 (dk_at dksX4_finds_0 9 rfl rfl)
theorem dX4_finds_12 : decode cX4_finds 12 = .ok (.iconst (-1), 1) := dk_2 (dk_at dksX4_finds_0 12 rfl rfl)
theorem dX4_finds_13 : decode cX4_finds 13 = .ok (.ireturn, 1) := dk_172 (dk_at dksX4_finds_0 13 rfl rfl)
theorem dX4_finds_14 : decode cX4_finds 14 = .ok (.aload_n 0, 1) := dk_42 (dk_at dksX4_finds_0 14 rfl rfl)
theorem dX4_finds_15 : decode cX4_finds 15 = .ok (.iload_n 1, 1) := dk_27 (dk_at dksX4_finds_0 15 rfl rfl)
theorem dX4_finds_16 : decode cX4_finds 16 = .ok (.invokevirtual 187, 3) := dk_182 0 187 (dk_at dksX4_finds_0 16 rfl rfl)
theorem dX4_finds_19 : decode cX4_finds 19 = .ok (.istore 4, 2) := dk_54 4 (dk_at dksX4_finds_0 19 rfl rfl)
theorem dX4_finds_21 : decode cX4_finds 21 = .ok (.iconst 1, 1) := dk_4 (dk_at dksX4_finds_0 21 rfl rfl)
theorem dX4_finds_22 : decode cX4_finds 22 = .ok (.istore 5, 2) := dk_54 5 (dk_at dksX4_finds_0 22 rfl rfl)
theorem dX4_finds_24 : decode cX4_finds 24 = .ok (.iload 5, 2) := dk_21 5 (dk_at dksX4_finds_1 0 rfl rfl)
theorem dX4_finds_26 : decode cX4_finds 26 = .ok (.iload 4, 2) := dk_21 4 (dk_at dksX4_finds_1 2 rfl rfl)
theorem dX4_finds_28 : decode cX4_finds 28 = .ok (.if_icmp .gt 120, 3) := dk_163 0 120 (dk_at dksX4_finds_1 4 rfl rfl)
theorem dX4_finds_31 : decode cX4_finds 31 = .ok (.iconst (-1), 1) := dk_2 (dk_at dksX4_finds_1 7 rfl rfl)
theorem dX4_finds_32 : decode cX4_finds 32 = .ok (.istore 6, 2) := dk_54 6 (dk_at dksX4_finds_1 8 rfl rfl)
theorem dX4_finds_34 : decode cX4_finds 34 = .ok (.iconst 0, 1) := dk_3 (dk_at dksX4_finds_1 10 rfl rfl)
theorem dX4_finds_35 : decode cX4_finds 35 = .ok (.istore 7, 2) := dk_54 7 (dk_at dksX4_finds_1 11 rfl rfl)
theorem dX4_finds_37 : decode cX4_finds 37 = .ok (.iload 4, 2) := dk_21 4 (dk_at dksX4_finds_1 13 rfl rfl)
theorem dX4_finds_39 : decode cX4_finds 39 = .ok (.iload 5, 2) := dk_21 5 (dk_at dksX4_finds_1 15 rfl rfl)
theorem dX4_finds_41 : decode cX4_finds 41 = .ok (.isub, 1) := dk_100 (dk_at dksX4_finds_1 17 rfl rfl)
theorem dX4_finds_42 : decode cX4_finds 42 = .ok (.istore 8, 2) := dk_54 8 (dk_at dksX4_finds_1 18 rfl rfl)
theorem dX4_finds_44 : decode cX4_finds 44 = .ok (.iload 8, 2) := dk_21 8 (dk_at dksX4_finds_1 20 rfl rfl)
theorem dX4_finds_46 : decode cX4_finds 46 = .ok (.ifCond .lt 69, 3) := dk_155 0 69 (dk_at dksX4_finds_2 0 rfl rfl)
theorem dX4_finds_49 : decode cX4_finds 49 = .ok (.aload_n 0, 1) := dk_42 (dk_at dksX4_finds_2 3 rfl rfl)
theorem dX4_finds_50 : decode cX4_finds 50 = .ok (.iload_n 1, 1) := dk_27 (dk_at dksX4_finds_2 4 rfl rfl)
theorem dX4_finds_51 : decode cX4_finds 51 = .ok (.iload 8, 2) := dk_21 8 (dk_at dksX4_finds_2 5 rfl rfl)
theorem dX4_finds_53 : decode cX4_finds 53 = .ok (.iload 5, 2) := dk_21 5 (dk_at dksX4_finds_2 7 rfl rfl)
theorem dX4_finds_55 : decode cX4_finds 55 = .ok (.invokevirtual 280, 3) := dk_182 1 24 (dk_at dksX4_finds_2 9 rfl rfl)
theorem dX4_finds_58 : decode cX4_finds 58 = .ok (.aload_n 0, 1) := dk_42 (dk_at dksX4_finds_2 12 rfl rfl)
theorem dX4_finds_59 : decode cX4_finds 59 = .ok (.getfield 96, 3) := dk_180 0 96 (dk_at dksX4_finds_2 13 rfl rfl)
theorem dX4_finds_62 : decode cX4_finds 62 = .ok (.iload_n 2, 1) := dk_28 (dk_at dksX4_finds_2 16 rfl rfl)
theorem dX4_finds_63 : decode cX4_finds 63 = .ok (.i2l, 1) := dk_133 (dk_at dksX4_finds_2 17 rfl rfl)
theorem dX4_finds_64 : decode cX4_finds 64 = .ok (.lcmp, 1) := dk_148 (dk_at dksX4_finds_2 18 rfl rfl)
theorem dX4_finds_65 : decode cX4_finds 65 = .ok (.ifCond .ne 17, 3) := dk_154 0 17 (dk_at dksX4_finds_2 19 rfl rfl)
theorem dX4_finds_68 : decode cX4_finds 68 = .ok (.aload_n 0, 1) := dk_42 (dk_at dksX4_finds_2 22 rfl rfl)
theorem dX4_finds_69 : decode cX4_finds 69 = .ok (.getfield 100, 3) := dk_180 0 100 (dk_at dksX4_finds_3 0 rfl rfl)
theorem dX4_finds_72 : decode cX4_finds 72 = .ok (.iload_n 3, 1) := dk_29 (dk_at dksX4_finds_3 3 rfl rfl)
theorem dX4_finds_73 : decode cX4_finds 73 = .ok (.i2l, 1) := dk_133 (dk_at dksX4_finds_3 4 rfl rfl)
theorem dX4_finds_74 : decode cX4_finds 74 = .ok (.lcmp, 1) := dk_148 (dk_at dksX4_finds_3 5 rfl rfl)
theorem dX4_finds_75 : decode cX4_finds 75 = .ok (.ifCond .ne 7, 3) := dk_154 0 7 (dk_at dksX4_finds_3 6 rfl rfl)
theorem dX4_finds_78 : decode cX4_finds 78 = .ok (.iconst 1, 1) := dk_4 (dk_at dksX4_finds_3 9 rfl rfl)
theorem dX4_finds_79 : decode cX4_finds 79 = .ok (.goto 4, 3) := dk_167 0 4 (dk_at dksX4_finds_3 10 rfl rfl)
theorem dX4_finds_82 : decode cX4_finds 82 = .ok (.iconst 0, 1) := dk_3 (dk_at dksX4_finds_3 13 rfl rfl)
theorem dX4_finds_83 : decode cX4_finds 83 = .ok (.istore 9, 2) := dk_54 9 (dk_at dksX4_finds_3 14 rfl rfl)
theorem dX4_finds_85 : decode cX4_finds 85 = .ok (.iload 9, 2) := dk_21 9 (dk_at dksX4_finds_3 16 rfl rfl)
theorem dX4_finds_87 : decode cX4_finds 87 = .ok (.ifCond .eq 8, 3) := dk_153 0 8 (dk_at dksX4_finds_3 18 rfl rfl)
theorem dX4_finds_90 : decode cX4_finds 90 = .ok (.iload 8, 2) := dk_21 8 (dk_at dksX4_finds_3 21 rfl rfl)
theorem dX4_finds_92 : decode cX4_finds 92 = .ok (.goto 5, 3) := dk_167 0 5 (dk_at dksX4_finds_4 0 rfl rfl)
theorem dX4_finds_95 : decode cX4_finds 95 = .ok (.iload 6, 2) := dk_21 6 (dk_at dksX4_finds_4 3 rfl rfl)
theorem dX4_finds_97 : decode cX4_finds 97 = .ok (.istore 6, 2) := dk_54 6 (dk_at dksX4_finds_4 5 rfl rfl)
theorem dX4_finds_99 : decode cX4_finds 99 = .ok (.iload 7, 2) := dk_21 7 (dk_at dksX4_finds_4 7 rfl rfl)
theorem dX4_finds_101 : decode cX4_finds 101 = .ok (.iload 9, 2) := dk_21 9 (dk_at dksX4_finds_4 9 rfl rfl)
theorem dX4_finds_103 : decode cX4_finds 103 = .ok (.invokestatic 31, 3) := dk_184 0 31 (dk_at dksX4_finds_4 11 rfl rfl)
theorem dX4_finds_106 : decode cX4_finds 106 = .ok (.iadd, 1) := dk_96 (dk_at dksX4_finds_4 14 rfl rfl)
theorem dX4_finds_107 : decode cX4_finds 107 = .ok (.istore 7, 2) := dk_54 7 (dk_at dksX4_finds_4 15 rfl rfl)
theorem dX4_finds_109 : decode cX4_finds 109 = .ok (.iinc 8 (-1), 3) := dk_132 8 255 (dk_at dksX4_finds_4 17 rfl rfl)
theorem dX4_finds_112 : decode cX4_finds 112 = .ok (.goto (-68), 3) := dk_167 255 188 (dk_at dksX4_finds_4 20 rfl rfl)
theorem dX4_finds_115 : decode cX4_finds 115 = .ok (.iload 7, 2) := dk_21 7 (dk_at dksX4_finds_5 0 rfl rfl)
theorem dX4_finds_117 : decode cX4_finds 117 = .ok (.ifCond .le 25, 3) := dk_158 0 25 (dk_at dksX4_finds_5 2 rfl rfl)
theorem dX4_finds_120 : decode cX4_finds 120 = .ok (.aload_n 0, 1) := dk_42 (dk_at dksX4_finds_5 5 rfl rfl)
theorem dX4_finds_121 : decode cX4_finds 121 = .ok (.iconst 0, 1) := dk_3 (dk_at dksX4_finds_5 6 rfl rfl)
theorem dX4_finds_122 : decode cX4_finds 122 = .ok (.putfield 11, 3) := dk_181 0 11 (dk_at dksX4_finds_5 7 rfl rfl)
theorem dX4_finds_125 : decode cX4_finds 125 = .ok (.aload_n 0, 1) := dk_42 (dk_at dksX4_finds_5 10 rfl rfl)
theorem dX4_finds_126 : decode cX4_finds 126 = .ok (.iload 6, 2) := dk_21 6 (dk_at dksX4_finds_5 11 rfl rfl)
theorem dX4_finds_128 : decode cX4_finds 128 = .ok (.i2l, 1) := dk_133 (dk_at dksX4_finds_5 13 rfl rfl)
theorem dX4_finds_129 : decode cX4_finds 129 = .ok (.invokevirtual 164, 3) := dk_182 0 164 (dk_at dksX4_finds_5 14 rfl rfl)
theorem dX4_finds_132 : decode cX4_finds 132 = .ok (.aload_n 0, 1) := dk_42 (dk_at dksX4_finds_5 17 rfl rfl)
theorem dX4_finds_133 : decode cX4_finds 133 = .ok (.iload 7, 2) := dk_21 7 (dk_at dksX4_finds_5 18 rfl rfl)
theorem dX4_finds_135 : decode cX4_finds 135 = .ok (.i2l, 1) := dk_133 (dk_at dksX4_finds_5 20 rfl rfl)
theorem dX4_finds_136 : decode cX4_finds 136 = .ok (.invokevirtual 164, 3) := dk_182 0 164 (dk_at dksX4_finds_5 21 rfl rfl)
theorem dX4_finds_139 : decode cX4_finds 139 = .ok (.iload 5, 2) := dk_21 5 (dk_at dksX4_finds_6 0 rfl rfl)
theorem dX4_finds_141 : decode cX4_finds 141 = .ok (.ireturn, 1) := dk_172 (dk_at dksX4_finds_6 2 rfl rfl)
theorem dX4_finds_142 : decode cX4_finds 142 = .ok (.iinc 5 1, 3) := dk_132 5 1 (dk_at dksX4_finds_6 3 rfl rfl)
theorem dX4_finds_145 : decode cX4_finds 145 = .ok (.goto (-121), 3) := dk_167 255 135 (dk_at dksX4_finds_6 6 rfl rfl)
theorem dX4_finds_148 : decode cX4_finds 148 = .ok (.bipush (-2), 2) := dk_16 254 (dk_at dksX4_finds_6 9 rfl rfl)
theorem dX4_finds_150 : decode cX4_finds 150 = .ok (.ireturn, 1) := dk_172 (dk_at dksX4_finds_6 11 rfl rfl)
def dkwX4_drains_2 : List UInt8 := [182, 0, 164, 42, 28, 133, 182, 0, 164, 42, 29, 133, 182, 0, 164, 28, 29, 184, 1, 43, 172]
abbrev dktX4_drains_2 : List UInt8 := dkwX4_drains_2 ++ []
def dkwX4_drains_1 : List UInt8 := [182, 1, 40, 62, 42, 3, 181, 0, 11, 42, 29, 28, 162, 0, 7, 4, 167, 0, 4, 3, 184, 0, 31, 133]
abbrev dktX4_drains_1 : List UInt8 := dkwX4_drains_1 ++ dktX4_drains_2
def dkwX4_drains_0 : List UInt8 := [42, 3, 181, 0, 1, 27, 184, 0, 237, 154, 0, 5, 2, 172, 42, 27, 3, 182, 1, 40, 61, 42, 27, 4]
abbrev dktX4_drains_0 : List UInt8 := dkwX4_drains_0 ++ dktX4_drains_1
theorem dksX4_drains_0 : cX4_drains.data.toList.drop 0 = dktX4_drains_0 := by decide +kernel
theorem dksX4_drains_1 : cX4_drains.data.toList.drop 24 = dktX4_drains_1 := dk_seg dksX4_drains_0 24 rfl rfl
theorem dksX4_drains_2 : cX4_drains.data.toList.drop 48 = dktX4_drains_2 := dk_seg dksX4_drains_1 24 rfl rfl
theorem dX4_drains_0 : decode cX4_drains 0 = .ok (.aload_n 0, 1) := dk_42 (dk_at dksX4_drains_0 0 rfl rfl)
theorem dX4_drains_1 : decode cX4_drains 1 = .ok (.iconst 0, 1) := dk_3 (dk_at dksX4_drains_0 1 rfl rfl)
theorem dX4_drains_2 : decode cX4_drains 2 = .ok (.putfield 1, 3) := dk_181 0 1 (dk_at dksX4_drains_0 2 rfl rfl)
theorem dX4_drains_5 : decode cX4_drains 5 = .ok (.iload_n 1, 1) := dk_27 (dk_at dksX4_drains_0 5 rfl rfl)
theorem dX4_drains_6 : decode cX4_drains 6 = .ok (.invokestatic 237, 3) := dk_184 0 237 (dk_at dksX4_drains_0 6 rfl rfl)
theorem dX4_drains_9 : decode cX4_drains 9 = .ok (.ifCond .ne 5, 3) := dk_154 0 5 (dk_at dksX4_drains_0 9 rfl rfl)
theorem dX4_drains_12 : decode cX4_drains 12 = .ok (.iconst (-1), 1) := dk_2 (dk_at dksX4_drains_0 12 rfl rfl)
theorem dX4_drains_13 : decode cX4_drains 13 = .ok (.ireturn, 1) := dk_172 (dk_at dksX4_drains_0 13 rfl rfl)
theorem dX4_drains_14 : decode cX4_drains 14 = .ok (.aload_n 0, 1) := dk_42 (dk_at dksX4_drains_0 14 rfl rfl)
theorem dX4_drains_15 : decode cX4_drains 15 = .ok (.iload_n 1, 1) := dk_27 (dk_at dksX4_drains_0 15 rfl rfl)
theorem dX4_drains_16 : decode cX4_drains 16 = .ok (.iconst 0, 1) := dk_3 (dk_at dksX4_drains_0 16 rfl rfl)
theorem dX4_drains_17 : decode cX4_drains 17 = .ok (.invokevirtual 296, 3) := dk_182 1 40 (dk_at dksX4_drains_0 17 rfl rfl)
theorem dX4_drains_20 : decode cX4_drains 20 = .ok (.istore_n 2, 1) := dk_61 (dk_at dksX4_drains_0 20 rfl rfl)
theorem dX4_drains_21 : decode cX4_drains 21 = .ok (.aload_n 0, 1) := dk_42 (dk_at dksX4_drains_0 21 rfl rfl)
theorem dX4_drains_22 : decode cX4_drains 22 = .ok (.iload_n 1, 1) := dk_27 (dk_at dksX4_drains_0 22 rfl rfl)
theorem dX4_drains_23 : decode cX4_drains 23 = .ok (.iconst 1, 1) := dk_4 (dk_at dksX4_drains_0 23 rfl rfl)
theorem dX4_drains_24 : decode cX4_drains 24 = .ok (.invokevirtual 296, 3) := dk_182 1 40 (dk_at dksX4_drains_1 0 rfl rfl)
theorem dX4_drains_27 : decode cX4_drains 27 = .ok (.istore_n 3, 1) := dk_62 (dk_at dksX4_drains_1 3 rfl rfl)
theorem dX4_drains_28 : decode cX4_drains 28 = .ok (.aload_n 0, 1) := dk_42 (dk_at dksX4_drains_1 4 rfl rfl)
theorem dX4_drains_29 : decode cX4_drains 29 = .ok (.iconst 0, 1) := dk_3 (dk_at dksX4_drains_1 5 rfl rfl)
theorem dX4_drains_30 : decode cX4_drains 30 = .ok (.putfield 11, 3) := dk_181 0 11 (dk_at dksX4_drains_1 6 rfl rfl)
theorem dX4_drains_33 : decode cX4_drains 33 = .ok (.aload_n 0, 1) := dk_42 (dk_at dksX4_drains_1 9 rfl rfl)
theorem dX4_drains_34 : decode cX4_drains 34 = .ok (.iload_n 3, 1) := dk_29 (dk_at dksX4_drains_1 10 rfl rfl)
theorem dX4_drains_35 : decode cX4_drains 35 = .ok (.iload_n 2, 1) := dk_28 (dk_at dksX4_drains_1 11 rfl rfl)
theorem dX4_drains_36 : decode cX4_drains 36 = .ok (.if_icmp .ge 7, 3) := dk_162 0 7 (dk_at dksX4_drains_1 12 rfl rfl)
theorem dX4_drains_39 : decode cX4_drains 39 = .ok (.iconst 1, 1) := dk_4 (dk_at dksX4_drains_1 15 rfl rfl)
theorem dX4_drains_40 : decode cX4_drains 40 = .ok (.goto 4, 3) := dk_167 0 4 (dk_at dksX4_drains_1 16 rfl rfl)
theorem dX4_drains_43 : decode cX4_drains 43 = .ok (.iconst 0, 1) := dk_3 (dk_at dksX4_drains_1 19 rfl rfl)
theorem dX4_drains_44 : decode cX4_drains 44 = .ok (.invokestatic 31, 3) := dk_184 0 31 (dk_at dksX4_drains_1 20 rfl rfl)
theorem dX4_drains_47 : decode cX4_drains 47 = .ok (.i2l, 1) := dk_133 (dk_at dksX4_drains_1 23 rfl rfl)
theorem dX4_drains_48 : decode cX4_drains 48 = .ok (.invokevirtual 164, 3) := dk_182 0 164 (dk_at dksX4_drains_2 0 rfl rfl)
theorem dX4_drains_51 : decode cX4_drains 51 = .ok (.aload_n 0, 1) := dk_42 (dk_at dksX4_drains_2 3 rfl rfl)
theorem dX4_drains_52 : decode cX4_drains 52 = .ok (.iload_n 2, 1) := dk_28 (dk_at dksX4_drains_2 4 rfl rfl)
theorem dX4_drains_53 : decode cX4_drains 53 = .ok (.i2l, 1) := dk_133 (dk_at dksX4_drains_2 5 rfl rfl)
theorem dX4_drains_54 : decode cX4_drains 54 = .ok (.invokevirtual 164, 3) := dk_182 0 164 (dk_at dksX4_drains_2 6 rfl rfl)
theorem dX4_drains_57 : decode cX4_drains 57 = .ok (.aload_n 0, 1) := dk_42 (dk_at dksX4_drains_2 9 rfl rfl)
theorem dX4_drains_58 : decode cX4_drains 58 = .ok (.iload_n 3, 1) := dk_29 (dk_at dksX4_drains_2 10 rfl rfl)
theorem dX4_drains_59 : decode cX4_drains 59 = .ok (.i2l, 1) := dk_133 (dk_at dksX4_drains_2 11 rfl rfl)
theorem dX4_drains_60 : decode cX4_drains 60 = .ok (.invokevirtual 164, 3) := dk_182 0 164 (dk_at dksX4_drains_2 12 rfl rfl)
theorem dX4_drains_63 : decode cX4_drains 63 = .ok (.iload_n 2, 1) := dk_28 (dk_at dksX4_drains_2 15 rfl rfl)
theorem dX4_drains_64 : decode cX4_drains 64 = .ok (.iload_n 3, 1) := dk_29 (dk_at dksX4_drains_2 16 rfl rfl)
theorem dX4_drains_65 : decode cX4_drains 65 = .ok (.invokestatic 299, 3) := dk_184 1 43 (dk_at dksX4_drains_2 17 rfl rfl)
theorem dX4_drains_68 : decode cX4_drains 68 = .ok (.ireturn, 1) := dk_172 (dk_at dksX4_drains_2 20 rfl rfl)
def dkwX4_drainsBy_1 : List UInt8 := [182, 1, 37, 96, 62, 167, 255, 236, 29, 172]
abbrev dktX4_drainsBy_1 : List UInt8 := dkwX4_drainsBy_1 ++ []
def dkwX4_drainsBy_0 : List UInt8 := [42, 27, 182, 1, 34, 3, 62, 42, 180, 1, 28, 42, 180, 1, 31, 96, 158, 0, 14, 29, 42, 28]
abbrev dktX4_drainsBy_0 : List UInt8 := dkwX4_drainsBy_0 ++ dktX4_drainsBy_1
theorem dksX4_drainsBy_0 : cX4_drainsBy.data.toList.drop 0 = dktX4_drainsBy_0 := by decide +kernel
theorem dksX4_drainsBy_1 : cX4_drainsBy.data.toList.drop 22 = dktX4_drainsBy_1 := dk_seg dksX4_drainsBy_0 22 rfl rfl
theorem dX4_drainsBy_0 : decode cX4_drainsBy 0 = .ok (.aload_n 0, 1) := dk_42 (dk_at dksX4_drainsBy_0 0 rfl rfl)
theorem dX4_drainsBy_1 : decode cX4_drainsBy 1 = .ok (.iload_n 1, 1) := dk_27 (dk_at dksX4_drainsBy_0 1 rfl rfl)
theorem dX4_drainsBy_2 : decode cX4_drainsBy 2 = .ok (.invokevirtual 290, 3) := dk_182 1 34 (dk_at dksX4_drainsBy_0 2 rfl rfl)
theorem dX4_drainsBy_5 : decode cX4_drainsBy 5 = .ok (.iconst 0, 1) := dk_3 (dk_at dksX4_drainsBy_0 5 rfl rfl)
theorem dX4_drainsBy_6 : decode cX4_drainsBy 6 = .ok (.istore_n 3, 1) := dk_62 (dk_at dksX4_drainsBy_0 6 rfl rfl)
theorem dX4_drainsBy_7 : decode cX4_drainsBy 7 = .ok (.aload_n 0, 1) := dk_42 (dk_at dksX4_drainsBy_0 7 rfl rfl)
theorem dX4_drainsBy_8 : decode cX4_drainsBy 8 = .ok (.getfield 284, 3) := dk_180 1 28 (dk_at dksX4_drainsBy_0 8 rfl rfl)
theorem dX4_drainsBy_11 : decode cX4_drainsBy 11 = .ok (.aload_n 0, 1) := dk_42 (dk_at dksX4_drainsBy_0 11 rfl rfl)
theorem dX4_drainsBy_12 : decode cX4_drainsBy 12 = .ok (.getfield 287, 3) := dk_180 1 31 (dk_at dksX4_drainsBy_0 12 rfl rfl)
theorem dX4_drainsBy_15 : decode cX4_drainsBy 15 = .ok (.iadd, 1) := dk_96 (dk_at dksX4_drainsBy_0 15 rfl rfl)
theorem dX4_drainsBy_16 : decode cX4_drainsBy 16 = .ok (.ifCond .le 14, 3) := dk_158 0 14 (dk_at dksX4_drainsBy_0 16 rfl rfl)
theorem dX4_drainsBy_19 : decode cX4_drainsBy 19 = .ok (.iload_n 3, 1) := dk_29 (dk_at dksX4_drainsBy_0 19 rfl rfl)
theorem dX4_drainsBy_20 : decode cX4_drainsBy 20 = .ok (.aload_n 0, 1) := dk_42 (dk_at dksX4_drainsBy_0 20 rfl rfl)
theorem dX4_drainsBy_21 : decode cX4_drainsBy 21 = .ok (.iload_n 2, 1) := dk_28 (dk_at dksX4_drainsBy_0 21 rfl rfl)
theorem dX4_drainsBy_22 : decode cX4_drainsBy 22 = .ok (.invokevirtual 293, 3) := dk_182 1 37 (dk_at dksX4_drainsBy_1 0 rfl rfl)
theorem dX4_drainsBy_25 : decode cX4_drainsBy 25 = .ok (.iadd, 1) := dk_96 (dk_at dksX4_drainsBy_1 3 rfl rfl)
theorem dX4_drainsBy_26 : decode cX4_drainsBy 26 = .ok (.istore_n 3, 1) := dk_62 (dk_at dksX4_drainsBy_1 4 rfl rfl)
theorem dX4_drainsBy_27 : decode cX4_drainsBy 27 = .ok (.goto (-20), 3) := dk_167 255 236 (dk_at dksX4_drainsBy_1 5 rfl rfl)
theorem dX4_drainsBy_30 : decode cX4_drainsBy 30 = .ok (.iload_n 3, 1) := dk_29 (dk_at dksX4_drainsBy_1 8 rfl rfl)
theorem dX4_drainsBy_31 : decode cX4_drainsBy 31 = .ok (.ireturn, 1) := dk_172 (dk_at dksX4_drainsBy_1 9 rfl rfl)
def dkwX4_begins_1 : List UInt8 := [181, 1, 31, 177]
abbrev dktX4_begins_1 : List UInt8 := dkwX4_begins_1 ++ []
def dkwX4_begins_0 : List UInt8 := [42, 42, 180, 0, 66, 5, 27, 104, 46, 181, 1, 28, 42, 42, 180, 0, 66, 5, 27, 104, 4, 96, 46]
abbrev dktX4_begins_0 : List UInt8 := dkwX4_begins_0 ++ dktX4_begins_1
theorem dksX4_begins_0 : cX4_begins.data.toList.drop 0 = dktX4_begins_0 := by decide +kernel
theorem dksX4_begins_1 : cX4_begins.data.toList.drop 23 = dktX4_begins_1 := dk_seg dksX4_begins_0 23 rfl rfl
theorem dX4_begins_0 : decode cX4_begins 0 = .ok (.aload_n 0, 1) := dk_42 (dk_at dksX4_begins_0 0 rfl rfl)
theorem dX4_begins_1 : decode cX4_begins 1 = .ok (.aload_n 0, 1) := dk_42 (dk_at dksX4_begins_0 1 rfl rfl)
theorem dX4_begins_2 : decode cX4_begins 2 = .ok (.getfield 66, 3) := dk_180 0 66 (dk_at dksX4_begins_0 2 rfl rfl)
theorem dX4_begins_5 : decode cX4_begins 5 = .ok (.iconst 2, 1) := dk_5 (dk_at dksX4_begins_0 5 rfl rfl)
theorem dX4_begins_6 : decode cX4_begins 6 = .ok (.iload_n 1, 1) := dk_27 (dk_at dksX4_begins_0 6 rfl rfl)
theorem dX4_begins_7 : decode cX4_begins 7 = .ok (.imul, 1) := dk_104 (dk_at dksX4_begins_0 7 rfl rfl)
theorem dX4_begins_8 : decode cX4_begins 8 = .ok (.iaload, 1) := dk_46 (dk_at dksX4_begins_0 8 rfl rfl)
theorem dX4_begins_9 : decode cX4_begins 9 = .ok (.putfield 284, 3) := dk_181 1 28 (dk_at dksX4_begins_0 9 rfl rfl)
theorem dX4_begins_12 : decode cX4_begins 12 = .ok (.aload_n 0, 1) := dk_42 (dk_at dksX4_begins_0 12 rfl rfl)
theorem dX4_begins_13 : decode cX4_begins 13 = .ok (.aload_n 0, 1) := dk_42 (dk_at dksX4_begins_0 13 rfl rfl)
theorem dX4_begins_14 : decode cX4_begins 14 = .ok (.getfield 66, 3) := dk_180 0 66 (dk_at dksX4_begins_0 14 rfl rfl)
theorem dX4_begins_17 : decode cX4_begins 17 = .ok (.iconst 2, 1) := dk_5 (dk_at dksX4_begins_0 17 rfl rfl)
theorem dX4_begins_18 : decode cX4_begins 18 = .ok (.iload_n 1, 1) := dk_27 (dk_at dksX4_begins_0 18 rfl rfl)
theorem dX4_begins_19 : decode cX4_begins 19 = .ok (.imul, 1) := dk_104 (dk_at dksX4_begins_0 19 rfl rfl)
theorem dX4_begins_20 : decode cX4_begins 20 = .ok (.iconst 1, 1) := dk_4 (dk_at dksX4_begins_0 20 rfl rfl)
theorem dX4_begins_21 : decode cX4_begins 21 = .ok (.iadd, 1) := dk_96 (dk_at dksX4_begins_0 21 rfl rfl)
theorem dX4_begins_22 : decode cX4_begins 22 = .ok (.iaload, 1) := dk_46 (dk_at dksX4_begins_0 22 rfl rfl)
theorem dX4_begins_23 : decode cX4_begins 23 = .ok (.putfield 287, 3) := dk_181 1 31 (dk_at dksX4_begins_1 0 rfl rfl)
theorem dX4_begins_26 : decode cX4_begins 26 = .ok (.return_, 1) := dk_177 (dk_at dksX4_begins_1 3 rfl rfl)
def dkwX4_costs_4 : List UInt8 := [160, 0, 7, 4, 167, 0, 4, 3, 184, 0, 31, 100, 181, 1, 31, 29, 172]
abbrev dktX4_costs_4 : List UInt8 := dkwX4_costs_4 ++ []
def dkwX4_costs_3 : List UInt8 := [154, 0, 7, 4, 167, 0, 4, 3, 184, 0, 31, 100, 181, 1, 28, 42, 89, 180, 1, 31, 27, 4]
abbrev dktX4_costs_3 : List UInt8 := dkwX4_costs_3 ++ dktX4_costs_4
def dkwX4_costs_2 : List UInt8 := [21, 4, 100, 181, 1, 28, 42, 28, 42, 180, 1, 28, 100, 181, 1, 31, 28, 62, 42, 89, 180, 1, 28, 27]
abbrev dktX4_costs_2 : List UInt8 := dkwX4_costs_2 ++ dktX4_costs_3
def dkwX4_costs_1 : List UInt8 := [180, 1, 31, 154, 0, 39, 28, 4, 96, 5, 108, 54, 4, 42, 27, 154, 0, 8, 21, 4, 167, 0, 7, 28]
abbrev dktX4_costs_1 : List UInt8 := dkwX4_costs_1 ++ dktX4_costs_2
def dkwX4_costs_0 : List UInt8 := [42, 180, 1, 28, 42, 180, 1, 31, 96, 61, 3, 62, 27, 154, 0, 10, 42, 180, 1, 28, 167, 0, 7, 42]
abbrev dktX4_costs_0 : List UInt8 := dkwX4_costs_0 ++ dktX4_costs_1
theorem dksX4_costs_0 : cX4_costs.data.toList.drop 0 = dktX4_costs_0 := by decide +kernel
theorem dksX4_costs_1 : cX4_costs.data.toList.drop 24 = dktX4_costs_1 := dk_seg dksX4_costs_0 24 rfl rfl
theorem dksX4_costs_2 : cX4_costs.data.toList.drop 48 = dktX4_costs_2 := dk_seg dksX4_costs_1 24 rfl rfl
theorem dksX4_costs_3 : cX4_costs.data.toList.drop 72 = dktX4_costs_3 := dk_seg dksX4_costs_2 24 rfl rfl
theorem dksX4_costs_4 : cX4_costs.data.toList.drop 94 = dktX4_costs_4 := dk_seg dksX4_costs_3 22 rfl rfl
theorem dX4_costs_0 : decode cX4_costs 0 = .ok (.aload_n 0, 1) := dk_42 (dk_at dksX4_costs_0 0 rfl rfl)
theorem dX4_costs_1 : decode cX4_costs 1 = .ok (.getfield 284, 3) := dk_180 1 28 (dk_at dksX4_costs_0 1 rfl rfl)
theorem dX4_costs_4 : decode cX4_costs 4 = .ok (.aload_n 0, 1) := dk_42 (dk_at dksX4_costs_0 4 rfl rfl)
theorem dX4_costs_5 : decode cX4_costs 5 = .ok (.getfield 287, 3) := dk_180 1 31 (dk_at dksX4_costs_0 5 rfl rfl)
theorem dX4_costs_8 : decode cX4_costs 8 = .ok (.iadd, 1) := dk_96 (dk_at dksX4_costs_0 8 rfl rfl)
theorem dX4_costs_9 : decode cX4_costs 9 = .ok (.istore_n 2, 1) := dk_61 (dk_at dksX4_costs_0 9 rfl rfl)
theorem dX4_costs_10 : decode cX4_costs 10 = .ok (.iconst 0, 1) := dk_3 (dk_at dksX4_costs_0 10 rfl rfl)
theorem dX4_costs_11 : decode cX4_costs 11 = .ok (.istore_n 3, 1) := dk_62 (dk_at dksX4_costs_0 11 rfl rfl)
theorem dX4_costs_12 : decode cX4_costs 12 = .ok (.iload_n 1, 1) := dk_27 (dk_at dksX4_costs_0 12 rfl rfl)
theorem dX4_costs_13 : decode cX4_costs 13 = .ok (.ifCond .ne 10, 3) := dk_154 0 10 (dk_at dksX4_costs_0 13 rfl rfl)
theorem dX4_costs_16 : decode cX4_costs 16 = .ok (.aload_n 0, 1) := dk_42 (dk_at dksX4_costs_0 16 rfl rfl)
theorem dX4_costs_17 : decode cX4_costs 17 = .ok (.getfield 284, 3) := dk_180 1 28 (dk_at dksX4_costs_0 17 rfl rfl)
theorem dX4_costs_20 : decode cX4_costs 20 = .ok (.goto 7, 3) := dk_167 0 7 (dk_at dksX4_costs_0 20 rfl rfl)
theorem dX4_costs_23 : decode cX4_costs 23 = .ok (.aload_n 0, 1) := dk_42 (dk_at dksX4_costs_0 23 rfl rfl)
theorem dX4_costs_24 : decode cX4_costs 24 = .ok (.getfield 287, 3) := dk_180 1 31 (dk_at dksX4_costs_1 0 rfl rfl)
theorem dX4_costs_27 : decode cX4_costs 27 = .ok (.ifCond .ne 39, 3) := dk_154 0 39 (dk_at dksX4_costs_1 3 rfl rfl)
theorem dX4_costs_30 : decode cX4_costs 30 = .ok (.iload_n 2, 1) := dk_28 (dk_at dksX4_costs_1 6 rfl rfl)
theorem dX4_costs_31 : decode cX4_costs 31 = .ok (.iconst 1, 1) := dk_4 (dk_at dksX4_costs_1 7 rfl rfl)
theorem dX4_costs_32 : decode cX4_costs 32 = .ok (.iadd, 1) := dk_96 (dk_at dksX4_costs_1 8 rfl rfl)
theorem dX4_costs_33 : decode cX4_costs 33 = .ok (.iconst 2, 1) := dk_5 (dk_at dksX4_costs_1 9 rfl rfl)
theorem dX4_costs_34 : decode cX4_costs 34 = .ok (.idiv, 1) := dk_108 (dk_at dksX4_costs_1 10 rfl rfl)
theorem dX4_costs_35 : decode cX4_costs 35 = .ok (.istore 4, 2) := dk_54 4 (dk_at dksX4_costs_1 11 rfl rfl)
theorem dX4_costs_37 : decode cX4_costs 37 = .ok (.aload_n 0, 1) := dk_42 (dk_at dksX4_costs_1 13 rfl rfl)
theorem dX4_costs_38 : decode cX4_costs 38 = .ok (.iload_n 1, 1) := dk_27 (dk_at dksX4_costs_1 14 rfl rfl)
theorem dX4_costs_39 : decode cX4_costs 39 = .ok (.ifCond .ne 8, 3) := dk_154 0 8 (dk_at dksX4_costs_1 15 rfl rfl)
theorem dX4_costs_42 : decode cX4_costs 42 = .ok (.iload 4, 2) := dk_21 4 (dk_at dksX4_costs_1 18 rfl rfl)
theorem dX4_costs_44 : decode cX4_costs 44 = .ok (.goto 7, 3) := dk_167 0 7 (dk_at dksX4_costs_1 20 rfl rfl)
theorem dX4_costs_47 : decode cX4_costs 47 = .ok (.iload_n 2, 1) := dk_28 (dk_at dksX4_costs_1 23 rfl rfl)
theorem dX4_costs_48 : decode cX4_costs 48 = .ok (.iload 4, 2) := dk_21 4 (dk_at dksX4_costs_2 0 rfl rfl)
theorem dX4_costs_50 : decode cX4_costs 50 = .ok (.isub, 1) := dk_100 (dk_at dksX4_costs_2 2 rfl rfl)
theorem dX4_costs_51 : decode cX4_costs 51 = .ok (.putfield 284, 3) := dk_181 1 28 (dk_at dksX4_costs_2 3 rfl rfl)
theorem dX4_costs_54 : decode cX4_costs 54 = .ok (.aload_n 0, 1) := dk_42 (dk_at dksX4_costs_2 6 rfl rfl)
theorem dX4_costs_55 : decode cX4_costs 55 = .ok (.iload_n 2, 1) := dk_28 (dk_at dksX4_costs_2 7 rfl rfl)
theorem dX4_costs_56 : decode cX4_costs 56 = .ok (.aload_n 0, 1) := dk_42 (dk_at dksX4_costs_2 8 rfl rfl)
theorem dX4_costs_57 : decode cX4_costs 57 = .ok (.getfield 284, 3) := dk_180 1 28 (dk_at dksX4_costs_2 9 rfl rfl)
theorem dX4_costs_60 : decode cX4_costs 60 = .ok (.isub, 1) := dk_100 (dk_at dksX4_costs_2 12 rfl rfl)
theorem dX4_costs_61 : decode cX4_costs 61 = .ok (.putfield 287, 3) := dk_181 1 31 (dk_at dksX4_costs_2 13 rfl rfl)
theorem dX4_costs_64 : decode cX4_costs 64 = .ok (.iload_n 2, 1) := dk_28 (dk_at dksX4_costs_2 16 rfl rfl)
theorem dX4_costs_65 : decode cX4_costs 65 = .ok (.istore_n 3, 1) := dk_62 (dk_at dksX4_costs_2 17 rfl rfl)
theorem dX4_costs_66 : decode cX4_costs 66 = .ok (.aload_n 0, 1) := dk_42 (dk_at dksX4_costs_2 18 rfl rfl)
theorem dX4_costs_67 : decode cX4_costs 67 = .ok (.dup, 1) := dk_89 (dk_at dksX4_costs_2 19 rfl rfl)
theorem dX4_costs_68 : decode cX4_costs 68 = .ok (.getfield 284, 3) := dk_180 1 28 (dk_at dksX4_costs_2 20 rfl rfl)
theorem dX4_costs_71 : decode cX4_costs 71 = .ok (.iload_n 1, 1) := dk_27 (dk_at dksX4_costs_2 23 rfl rfl)
theorem dX4_costs_72 : decode cX4_costs 72 = .ok (.ifCond .ne 7, 3) := dk_154 0 7 (dk_at dksX4_costs_3 0 rfl rfl)
theorem dX4_costs_75 : decode cX4_costs 75 = .ok (.iconst 1, 1) := dk_4 (dk_at dksX4_costs_3 3 rfl rfl)
theorem dX4_costs_76 : decode cX4_costs 76 = .ok (.goto 4, 3) := dk_167 0 4 (dk_at dksX4_costs_3 4 rfl rfl)
theorem dX4_costs_79 : decode cX4_costs 79 = .ok (.iconst 0, 1) := dk_3 (dk_at dksX4_costs_3 7 rfl rfl)
theorem dX4_costs_80 : decode cX4_costs 80 = .ok (.invokestatic 31, 3) := dk_184 0 31 (dk_at dksX4_costs_3 8 rfl rfl)
theorem dX4_costs_83 : decode cX4_costs 83 = .ok (.isub, 1) := dk_100 (dk_at dksX4_costs_3 11 rfl rfl)
theorem dX4_costs_84 : decode cX4_costs 84 = .ok (.putfield 284, 3) := dk_181 1 28 (dk_at dksX4_costs_3 12 rfl rfl)
theorem dX4_costs_87 : decode cX4_costs 87 = .ok (.aload_n 0, 1) := dk_42 (dk_at dksX4_costs_3 15 rfl rfl)
theorem dX4_costs_88 : decode cX4_costs 88 = .ok (.dup, 1) := dk_89 (dk_at dksX4_costs_3 16 rfl rfl)
theorem dX4_costs_89 : decode cX4_costs 89 = .ok (.getfield 287, 3) := dk_180 1 31 (dk_at dksX4_costs_3 17 rfl rfl)
theorem dX4_costs_92 : decode cX4_costs 92 = .ok (.iload_n 1, 1) := dk_27 (dk_at dksX4_costs_3 20 rfl rfl)
theorem dX4_costs_93 : decode cX4_costs 93 = .ok (.iconst 1, 1) := dk_4 (dk_at dksX4_costs_3 21 rfl rfl)
theorem dX4_costs_94 : decode cX4_costs 94 = .ok (.if_icmp .ne 7, 3) := dk_160 0 7 (dk_at dksX4_costs_4 0 rfl rfl)
theorem dX4_costs_97 : decode cX4_costs 97 = .ok (.iconst 1, 1) := dk_4 (dk_at dksX4_costs_4 3 rfl rfl)
theorem dX4_costs_98 : decode cX4_costs 98 = .ok (.goto 4, 3) := dk_167 0 4 (dk_at dksX4_costs_4 4 rfl rfl)
theorem dX4_costs_101 : decode cX4_costs 101 = .ok (.iconst 0, 1) := dk_3 (dk_at dksX4_costs_4 7 rfl rfl)
theorem dX4_costs_102 : decode cX4_costs 102 = .ok (.invokestatic 31, 3) := dk_184 0 31 (dk_at dksX4_costs_4 8 rfl rfl)
theorem dX4_costs_105 : decode cX4_costs 105 = .ok (.isub, 1) := dk_100 (dk_at dksX4_costs_4 11 rfl rfl)
theorem dX4_costs_106 : decode cX4_costs 106 = .ok (.putfield 287, 3) := dk_181 1 31 (dk_at dksX4_costs_4 12 rfl rfl)
theorem dX4_costs_109 : decode cX4_costs 109 = .ok (.iload_n 3, 1) := dk_29 (dk_at dksX4_costs_4 15 rfl rfl)
theorem dX4_costs_110 : decode cX4_costs 110 = .ok (.ireturn, 1) := dk_172 (dk_at dksX4_costs_4 16 rfl rfl)
def dkwX4_would_2 : List UInt8 := [181, 0, 11, 42, 42, 180, 1, 28, 133, 182, 0, 164, 42, 42, 180, 1, 31, 133, 182, 0, 164, 29, 172]
abbrev dktX4_would_2 : List UInt8 := dkwX4_would_2 ++ []
def dkwX4_would_1 : List UInt8 := [182, 0, 187, 154, 0, 6, 16, 254, 172, 42, 27, 182, 1, 34, 42, 28, 182, 1, 37, 62, 42, 3]
abbrev dktX4_would_1 : List UInt8 := dkwX4_would_1 ++ dktX4_would_2
def dkwX4_would_0 : List UInt8 := [42, 3, 181, 0, 1, 27, 184, 0, 237, 153, 0, 10, 28, 184, 0, 240, 154, 0, 5, 2, 172, 42, 27]
abbrev dktX4_would_0 : List UInt8 := dkwX4_would_0 ++ dktX4_would_1
theorem dksX4_would_0 : cX4_would.data.toList.drop 0 = dktX4_would_0 := by decide +kernel
theorem dksX4_would_1 : cX4_would.data.toList.drop 23 = dktX4_would_1 := dk_seg dksX4_would_0 23 rfl rfl
theorem dksX4_would_2 : cX4_would.data.toList.drop 45 = dktX4_would_2 := dk_seg dksX4_would_1 22 rfl rfl
theorem dX4_would_0 : decode cX4_would 0 = .ok (.aload_n 0, 1) := dk_42 (dk_at dksX4_would_0 0 rfl rfl)
theorem dX4_would_1 : decode cX4_would 1 = .ok (.iconst 0, 1) := dk_3 (dk_at dksX4_would_0 1 rfl rfl)
theorem dX4_would_2 : decode cX4_would 2 = .ok (.putfield 1, 3) := dk_181 0 1 (dk_at dksX4_would_0 2 rfl rfl)
theorem dX4_would_5 : decode cX4_would 5 = .ok (.iload_n 1, 1) := dk_27 (dk_at dksX4_would_0 5 rfl rfl)
theorem dX4_would_6 : decode cX4_would 6 = .ok (.invokestatic 237, 3) := dk_184 0 237 (dk_at dksX4_would_0 6 rfl rfl)
theorem dX4_would_9 : decode cX4_would 9 = .ok (.ifCond .eq 10, 3) := dk_153 0 10 (dk_at dksX4_would_0 9 rfl rfl)
theorem dX4_would_12 : decode cX4_would 12 = .ok (.iload_n 2, 1) := dk_28 (dk_at dksX4_would_0 12 rfl rfl)
theorem dX4_would_13 : decode cX4_would 13 = .ok (.invokestatic 240, 3) := dk_184 0 240 (dk_at dksX4_would_0 13 rfl rfl)
theorem dX4_would_16 : decode cX4_would 16 = .ok (.ifCond .ne 5, 3) := dk_154 0 5 (dk_at dksX4_would_0 16 rfl rfl)
theorem dX4_would_19 : decode cX4_would 19 = .ok (.iconst (-1), 1) := dk_2 (dk_at dksX4_would_0 19 rfl rfl)
theorem dX4_would_20 : decode cX4_would 20 = .ok (.ireturn, 1) := dk_172 (dk_at dksX4_would_0 20 rfl rfl)
theorem dX4_would_21 : decode cX4_would 21 = .ok (.aload_n 0, 1) := dk_42 (dk_at dksX4_would_0 21 rfl rfl)
theorem dX4_would_22 : decode cX4_would 22 = .ok (.iload_n 1, 1) := dk_27 (dk_at dksX4_would_0 22 rfl rfl)
theorem dX4_would_23 : decode cX4_would 23 = .ok (.invokevirtual 187, 3) := dk_182 0 187 (dk_at dksX4_would_1 0 rfl rfl)
theorem dX4_would_26 : decode cX4_would 26 = .ok (.ifCond .ne 6, 3) := dk_154 0 6 (dk_at dksX4_would_1 3 rfl rfl)
theorem dX4_would_29 : decode cX4_would 29 = .ok (.bipush (-2), 2) := dk_16 254 (dk_at dksX4_would_1 6 rfl rfl)
theorem dX4_would_31 : decode cX4_would 31 = .ok (.ireturn, 1) := dk_172 (dk_at dksX4_would_1 8 rfl rfl)
theorem dX4_would_32 : decode cX4_would 32 = .ok (.aload_n 0, 1) := dk_42 (dk_at dksX4_would_1 9 rfl rfl)
theorem dX4_would_33 : decode cX4_would 33 = .ok (.iload_n 1, 1) := dk_27 (dk_at dksX4_would_1 10 rfl rfl)
theorem dX4_would_34 : decode cX4_would 34 = .ok (.invokevirtual 290, 3) := dk_182 1 34 (dk_at dksX4_would_1 11 rfl rfl)
theorem dX4_would_37 : decode cX4_would 37 = .ok (.aload_n 0, 1) := dk_42 (dk_at dksX4_would_1 14 rfl rfl)
theorem dX4_would_38 : decode cX4_would 38 = .ok (.iload_n 2, 1) := dk_28 (dk_at dksX4_would_1 15 rfl rfl)
theorem dX4_would_39 : decode cX4_would 39 = .ok (.invokevirtual 293, 3) := dk_182 1 37 (dk_at dksX4_would_1 16 rfl rfl)
theorem dX4_would_42 : decode cX4_would 42 = .ok (.istore_n 3, 1) := dk_62 (dk_at dksX4_would_1 19 rfl rfl)
theorem dX4_would_43 : decode cX4_would 43 = .ok (.aload_n 0, 1) := dk_42 (dk_at dksX4_would_1 20 rfl rfl)
theorem dX4_would_44 : decode cX4_would 44 = .ok (.iconst 0, 1) := dk_3 (dk_at dksX4_would_1 21 rfl rfl)
theorem dX4_would_45 : decode cX4_would 45 = .ok (.putfield 11, 3) := dk_181 0 11 (dk_at dksX4_would_2 0 rfl rfl)
theorem dX4_would_48 : decode cX4_would 48 = .ok (.aload_n 0, 1) := dk_42 (dk_at dksX4_would_2 3 rfl rfl)
theorem dX4_would_49 : decode cX4_would 49 = .ok (.aload_n 0, 1) := dk_42 (dk_at dksX4_would_2 4 rfl rfl)
theorem dX4_would_50 : decode cX4_would 50 = .ok (.getfield 284, 3) := dk_180 1 28 (dk_at dksX4_would_2 5 rfl rfl)
theorem dX4_would_53 : decode cX4_would 53 = .ok (.i2l, 1) := dk_133 (dk_at dksX4_would_2 8 rfl rfl)
theorem dX4_would_54 : decode cX4_would 54 = .ok (.invokevirtual 164, 3) := dk_182 0 164 (dk_at dksX4_would_2 9 rfl rfl)
theorem dX4_would_57 : decode cX4_would 57 = .ok (.aload_n 0, 1) := dk_42 (dk_at dksX4_would_2 12 rfl rfl)
theorem dX4_would_58 : decode cX4_would 58 = .ok (.aload_n 0, 1) := dk_42 (dk_at dksX4_would_2 13 rfl rfl)
theorem dX4_would_59 : decode cX4_would 59 = .ok (.getfield 287, 3) := dk_180 1 31 (dk_at dksX4_would_2 14 rfl rfl)
theorem dX4_would_62 : decode cX4_would 62 = .ok (.i2l, 1) := dk_133 (dk_at dksX4_would_2 17 rfl rfl)
theorem dX4_would_63 : decode cX4_would 63 = .ok (.invokevirtual 164, 3) := dk_182 0 164 (dk_at dksX4_would_2 18 rfl rfl)
theorem dX4_would_66 : decode cX4_would 66 = .ok (.iload_n 3, 1) := dk_29 (dk_at dksX4_would_2 21 rfl rfl)
theorem dX4_would_67 : decode cX4_would 67 = .ok (.ireturn, 1) := dk_172 (dk_at dksX4_would_2 22 rfl rfl)
def dkwX4_dearest_5 : List UInt8 := [29, 133, 182, 0, 164, 21, 4, 172]
abbrev dktX4_dearest_5 : List UInt8 := dkwX4_dearest_5 ++ []
def dkwX4_dearest_4 : List UInt8 := [21, 4, 164, 0, 10, 21, 5, 62, 21, 6, 54, 4, 132, 5, 1, 167, 255, 192, 42, 3, 181, 0, 11, 42]
abbrev dktX4_dearest_4 : List UInt8 := dkwX4_dearest_4 ++ dktX4_dearest_5
def dkwX4_dearest_3 : List UInt8 := [21, 6, 42, 21, 5, 21, 7, 122, 4, 126, 182, 1, 37, 96, 54, 6, 132, 7, 1, 167, 255, 231, 21, 6]
abbrev dktX4_dearest_3 : List UInt8 := dkwX4_dearest_3 ++ dktX4_dearest_4
def dkwX4_dearest_2 : List UInt8 := [4, 28, 120, 162, 0, 62, 42, 27, 182, 1, 34, 3, 54, 6, 3, 54, 7, 21, 7, 28, 162, 0, 25]
abbrev dktX4_dearest_2 : List UInt8 := dkwX4_dearest_2 ++ dktX4_dearest_3
def dkwX4_dearest_1 : List UInt8 := [2, 172, 42, 27, 182, 0, 187, 28, 162, 0, 6, 16, 254, 172, 3, 62, 2, 54, 4, 3, 54, 5, 21, 5]
abbrev dktX4_dearest_1 : List UInt8 := dkwX4_dearest_1 ++ dktX4_dearest_2
def dkwX4_dearest_0 : List UInt8 := [42, 3, 181, 0, 1, 27, 184, 0, 237, 153, 0, 15, 28, 133, 10, 20, 1, 45, 184, 0, 21, 154, 0, 5]
abbrev dktX4_dearest_0 : List UInt8 := dkwX4_dearest_0 ++ dktX4_dearest_1
theorem dksX4_dearest_0 : cX4_dearest.data.toList.drop 0 = dktX4_dearest_0 := by decide +kernel
theorem dksX4_dearest_1 : cX4_dearest.data.toList.drop 24 = dktX4_dearest_1 := dk_seg dksX4_dearest_0 24 rfl rfl
theorem dksX4_dearest_2 : cX4_dearest.data.toList.drop 48 = dktX4_dearest_2 := dk_seg dksX4_dearest_1 24 rfl rfl
theorem dksX4_dearest_3 : cX4_dearest.data.toList.drop 71 = dktX4_dearest_3 := dk_seg dksX4_dearest_2 23 rfl rfl
theorem dksX4_dearest_4 : cX4_dearest.data.toList.drop 95 = dktX4_dearest_4 := dk_seg dksX4_dearest_3 24 rfl rfl
theorem dksX4_dearest_5 : cX4_dearest.data.toList.drop 119 = dktX4_dearest_5 := dk_seg dksX4_dearest_4 24 rfl rfl
theorem dX4_dearest_0 : decode cX4_dearest 0 = .ok (.aload_n 0, 1) := dk_42 (dk_at dksX4_dearest_0 0 rfl rfl)
theorem dX4_dearest_1 : decode cX4_dearest 1 = .ok (.iconst 0, 1) := dk_3 (dk_at dksX4_dearest_0 1 rfl rfl)
theorem dX4_dearest_2 : decode cX4_dearest 2 = .ok (.putfield 1, 3) := dk_181 0 1 (dk_at dksX4_dearest_0 2 rfl rfl)
theorem dX4_dearest_5 : decode cX4_dearest 5 = .ok (.iload_n 1, 1) := dk_27 (dk_at dksX4_dearest_0 5 rfl rfl)
theorem dX4_dearest_6 : decode cX4_dearest 6 = .ok (.invokestatic 237, 3) := dk_184 0 237 (dk_at dksX4_dearest_0 6 rfl rfl)
theorem dX4_dearest_9 : decode cX4_dearest 9 = .ok (.ifCond .eq 15, 3) := dk_153 0 15 (dk_at dksX4_dearest_0 9 rfl rfl)
theorem dX4_dearest_12 : decode cX4_dearest 12 = .ok (.iload_n 2, 1) := dk_28 (dk_at dksX4_dearest_0 12 rfl rfl)
theorem dX4_dearest_13 : decode cX4_dearest 13 = .ok (.i2l, 1) := dk_133 (dk_at dksX4_dearest_0 13 rfl rfl)
theorem dX4_dearest_14 : decode cX4_dearest 14 = .ok (.lconst 1, 1) := dk_10 (dk_at dksX4_dearest_0 14 rfl rfl)
theorem dX4_dearest_15 : decode cX4_dearest 15 = .ok (.ldc2_w 301, 3) := dk_20 1 45 (dk_at dksX4_dearest_0 15 rfl rfl)
theorem dX4_dearest_18 : decode cX4_dearest 18 = .ok (.invokestatic 21, 3) := dk_184 0 21 (dk_at dksX4_dearest_0 18 rfl rfl)
theorem dX4_dearest_21 : decode cX4_dearest 21 = .ok (.ifCond .ne 5, 3) := dk_154 0 5 (dk_at dksX4_dearest_0 21 rfl rfl)
theorem dX4_dearest_24 : decode cX4_dearest 24 = .ok (.iconst (-1), 1) := dk_2 (dk_at dksX4_dearest_1 0 rfl rfl)
theorem dX4_dearest_25 : decode cX4_dearest 25 = .ok (.ireturn, 1) := dk_172 (dk_at dksX4_dearest_1 1 rfl rfl)
theorem dX4_dearest_26 : decode cX4_dearest 26 = .ok (.aload_n 0, 1) := dk_42 (dk_at dksX4_dearest_1 2 rfl rfl)
theorem dX4_dearest_27 : decode cX4_dearest 27 = .ok (.iload_n 1, 1) := dk_27 (dk_at dksX4_dearest_1 3 rfl rfl)
theorem dX4_dearest_28 : decode cX4_dearest 28 = .ok (.invokevirtual 187, 3) := dk_182 0 187 (dk_at dksX4_dearest_1 4 rfl rfl)
theorem dX4_dearest_31 : decode cX4_dearest 31 = .ok (.iload_n 2, 1) := dk_28 (dk_at dksX4_dearest_1 7 rfl rfl)
theorem dX4_dearest_32 : decode cX4_dearest 32 = .ok (.if_icmp .ge 6, 3) := dk_162 0 6 (dk_at dksX4_dearest_1 8 rfl rfl)
theorem dX4_dearest_35 : decode cX4_dearest 35 = .ok (.bipush (-2), 2) := dk_16 254 (dk_at dksX4_dearest_1 11 rfl rfl)
theorem dX4_dearest_37 : decode cX4_dearest 37 = .ok (.ireturn, 1) := dk_172 (dk_at dksX4_dearest_1 13 rfl rfl)
theorem dX4_dearest_38 : decode cX4_dearest 38 = .ok (.iconst 0, 1) := dk_3 (dk_at dksX4_dearest_1 14 rfl rfl)
theorem dX4_dearest_39 : decode cX4_dearest 39 = .ok (.istore_n 3, 1) := dk_62 (dk_at dksX4_dearest_1 15 rfl rfl)
theorem dX4_dearest_40 : decode cX4_dearest 40 = .ok (.iconst (-1), 1) := dk_2 (dk_at dksX4_dearest_1 16 rfl rfl)
theorem dX4_dearest_41 : decode cX4_dearest 41 = .ok (.istore 4, 2) := dk_54 4 (dk_at dksX4_dearest_1 17 rfl rfl)
theorem dX4_dearest_43 : decode cX4_dearest 43 = .ok (.iconst 0, 1) := dk_3 (dk_at dksX4_dearest_1 19 rfl rfl)
theorem dX4_dearest_44 : decode cX4_dearest 44 = .ok (.istore 5, 2) := dk_54 5 (dk_at dksX4_dearest_1 20 rfl rfl)
theorem dX4_dearest_46 : decode cX4_dearest 46 = .ok (.iload 5, 2) := dk_21 5 (dk_at dksX4_dearest_1 22 rfl rfl)
theorem dX4_dearest_48 : decode cX4_dearest 48 = .ok (.iconst 1, 1) := dk_4 (dk_at dksX4_dearest_2 0 rfl rfl)
theorem dX4_dearest_49 : decode cX4_dearest 49 = .ok (.iload_n 2, 1) := dk_28 (dk_at dksX4_dearest_2 1 rfl rfl)
theorem dX4_dearest_50 : decode cX4_dearest 50 = .ok (.ishl, 1) := dk_120 (dk_at dksX4_dearest_2 2 rfl rfl)
theorem dX4_dearest_51 : decode cX4_dearest 51 = .ok (.if_icmp .ge 62, 3) := dk_162 0 62 (dk_at dksX4_dearest_2 3 rfl rfl)
theorem dX4_dearest_54 : decode cX4_dearest 54 = .ok (.aload_n 0, 1) := dk_42 (dk_at dksX4_dearest_2 6 rfl rfl)
theorem dX4_dearest_55 : decode cX4_dearest 55 = .ok (.iload_n 1, 1) := dk_27 (dk_at dksX4_dearest_2 7 rfl rfl)
theorem dX4_dearest_56 : decode cX4_dearest 56 = .ok (.invokevirtual 290, 3) := dk_182 1 34 (dk_at dksX4_dearest_2 8 rfl rfl)
theorem dX4_dearest_59 : decode cX4_dearest 59 = .ok (.iconst 0, 1) := dk_3 (dk_at dksX4_dearest_2 11 rfl rfl)
theorem dX4_dearest_60 : decode cX4_dearest 60 = .ok (.istore 6, 2) := dk_54 6 (dk_at dksX4_dearest_2 12 rfl rfl)
theorem dX4_dearest_62 : decode cX4_dearest 62 = .ok (.iconst 0, 1) := dk_3 (dk_at dksX4_dearest_2 14 rfl rfl)
theorem dX4_dearest_63 : decode cX4_dearest 63 = .ok (.istore 7, 2) := dk_54 7 (dk_at dksX4_dearest_2 15 rfl rfl)
theorem dX4_dearest_65 : decode cX4_dearest 65 = .ok (.iload 7, 2) := dk_21 7 (dk_at dksX4_dearest_2 17 rfl rfl)
theorem dX4_dearest_67 : decode cX4_dearest 67 = .ok (.iload_n 2, 1) := dk_28 (dk_at dksX4_dearest_2 19 rfl rfl)
theorem dX4_dearest_68 : decode cX4_dearest 68 = .ok (.if_icmp .ge 25, 3) := dk_162 0 25 (dk_at dksX4_dearest_2 20 rfl rfl)
theorem dX4_dearest_71 : decode cX4_dearest 71 = .ok (.iload 6, 2) := dk_21 6 (dk_at dksX4_dearest_3 0 rfl rfl)
theorem dX4_dearest_73 : decode cX4_dearest 73 = .ok (.aload_n 0, 1) := dk_42 (dk_at dksX4_dearest_3 2 rfl rfl)
theorem dX4_dearest_74 : decode cX4_dearest 74 = .ok (.iload 5, 2) := dk_21 5 (dk_at dksX4_dearest_3 3 rfl rfl)
theorem dX4_dearest_76 : decode cX4_dearest 76 = .ok (.iload 7, 2) := dk_21 7 (dk_at dksX4_dearest_3 5 rfl rfl)
theorem dX4_dearest_78 : decode cX4_dearest 78 = .ok (.ishr, 1) := dk_122 (dk_at dksX4_dearest_3 7 rfl rfl)
theorem dX4_dearest_79 : decode cX4_dearest 79 = .ok (.iconst 1, 1) := dk_4 (dk_at dksX4_dearest_3 8 rfl rfl)
theorem dX4_dearest_80 : decode cX4_dearest 80 = .ok (.iand, 1) := dk_126 (dk_at dksX4_dearest_3 9 rfl rfl)
theorem dX4_dearest_81 : decode cX4_dearest 81 = .ok (.invokevirtual 293, 3) := dk_182 1 37 (dk_at dksX4_dearest_3 10 rfl rfl)
theorem dX4_dearest_84 : decode cX4_dearest 84 = .ok (.iadd, 1) := dk_96 (dk_at dksX4_dearest_3 13 rfl rfl)
theorem dX4_dearest_85 : decode cX4_dearest 85 = .ok (.istore 6, 2) := dk_54 6 (dk_at dksX4_dearest_3 14 rfl rfl)
theorem dX4_dearest_87 : decode cX4_dearest 87 = .ok (.iinc 7 1, 3) := dk_132 7 1 (dk_at dksX4_dearest_3 16 rfl rfl)
theorem dX4_dearest_90 : decode cX4_dearest 90 = .ok (.goto (-25), 3) := dk_167 255 231 (dk_at dksX4_dearest_3 19 rfl rfl)
theorem dX4_dearest_93 : decode cX4_dearest 93 = .ok (.iload 6, 2) := dk_21 6 (dk_at dksX4_dearest_3 22 rfl rfl)
theorem dX4_dearest_95 : decode cX4_dearest 95 = .ok (.iload 4, 2) := dk_21 4 (dk_at dksX4_dearest_4 0 rfl rfl)
theorem dX4_dearest_97 : decode cX4_dearest 97 = .ok (.if_icmp .le 10, 3) := dk_164 0 10 (dk_at dksX4_dearest_4 2 rfl rfl)
theorem dX4_dearest_100 : decode cX4_dearest 100 = .ok (.iload 5, 2) := dk_21 5 (dk_at dksX4_dearest_4 5 rfl rfl)
theorem dX4_dearest_102 : decode cX4_dearest 102 = .ok (.istore_n 3, 1) := dk_62 (dk_at dksX4_dearest_4 7 rfl rfl)
theorem dX4_dearest_103 : decode cX4_dearest 103 = .ok (.iload 6, 2) := dk_21 6 (dk_at dksX4_dearest_4 8 rfl rfl)
theorem dX4_dearest_105 : decode cX4_dearest 105 = .ok (.istore 4, 2) := dk_54 4 (dk_at dksX4_dearest_4 10 rfl rfl)
theorem dX4_dearest_107 : decode cX4_dearest 107 = .ok (.iinc 5 1, 3) := dk_132 5 1 (dk_at dksX4_dearest_4 12 rfl rfl)
theorem dX4_dearest_110 : decode cX4_dearest 110 = .ok (.goto (-64), 3) := dk_167 255 192 (dk_at dksX4_dearest_4 15 rfl rfl)
theorem dX4_dearest_113 : decode cX4_dearest 113 = .ok (.aload_n 0, 1) := dk_42 (dk_at dksX4_dearest_4 18 rfl rfl)
theorem dX4_dearest_114 : decode cX4_dearest 114 = .ok (.iconst 0, 1) := dk_3 (dk_at dksX4_dearest_4 19 rfl rfl)
theorem dX4_dearest_115 : decode cX4_dearest 115 = .ok (.putfield 11, 3) := dk_181 0 11 (dk_at dksX4_dearest_4 20 rfl rfl)
theorem dX4_dearest_118 : decode cX4_dearest 118 = .ok (.aload_n 0, 1) := dk_42 (dk_at dksX4_dearest_4 23 rfl rfl)
theorem dX4_dearest_119 : decode cX4_dearest 119 = .ok (.iload_n 3, 1) := dk_29 (dk_at dksX4_dearest_5 0 rfl rfl)
theorem dX4_dearest_120 : decode cX4_dearest 120 = .ok (.i2l, 1) := dk_133 (dk_at dksX4_dearest_5 1 rfl rfl)
theorem dX4_dearest_121 : decode cX4_dearest 121 = .ok (.invokevirtual 164, 3) := dk_182 0 164 (dk_at dksX4_dearest_5 2 rfl rfl)
theorem dX4_dearest_124 : decode cX4_dearest 124 = .ok (.iload 4, 2) := dk_21 4 (dk_at dksX4_dearest_5 5 rfl rfl)
theorem dX4_dearest_126 : decode cX4_dearest 126 = .ok (.ireturn, 1) := dk_172 (dk_at dksX4_dearest_5 7 rfl rfl)
def dkwX4_unlike_10 : List UInt8 := [42, 180, 0, 63, 21, 4, 47, 182, 0, 164, 42, 21, 5, 133, 182, 0, 164, 29, 172]
abbrev dktX4_unlike_10 : List UInt8 := dkwX4_unlike_10 ++ []
def dkwX4_unlike_9 : List UInt8 := [167, 255, 116, 42, 3, 181, 0, 11, 28, 158, 0, 32, 42, 42, 180, 0, 60, 21, 4, 47, 182, 0, 164, 42]
abbrev dktX4_unlike_9 : List UInt8 := dkwX4_unlike_9 ++ dktX4_unlike_10
def dkwX4_unlike_8 : List UInt8 := [164, 0, 8, 21, 6, 167, 0, 5, 21, 4, 54, 4, 21, 5, 21, 7, 184, 1, 47, 54, 5, 132, 6, 1]
abbrev dktX4_unlike_8 : List UInt8 := dkwX4_unlike_8 ++ dktX4_unlike_9
def dkwX4_unlike_7 : List UInt8 := [167, 0, 4, 3, 54, 8, 132, 9, 1, 167, 255, 170, 29, 21, 8, 184, 0, 31, 96, 62, 21, 7, 21, 5]
abbrev dktX4_unlike_7 : List UInt8 := dkwX4_unlike_7 ++ dktX4_unlike_8
def dkwX4_unlike_6 : List UInt8 := [184, 0, 31, 96, 54, 7, 21, 8, 153, 0, 19, 21, 10, 153, 0, 10, 21, 9, 21, 6, 161, 0, 7, 4]
abbrev dktX4_unlike_6 : List UInt8 := dkwX4_unlike_6 ++ dktX4_unlike_7
def dkwX4_unlike_5 : List UInt8 := [42, 180, 0, 63, 21, 6, 47, 148, 154, 0, 7, 4, 167, 0, 4, 3, 54, 10, 21, 7, 21, 10]
abbrev dktX4_unlike_5 : List UInt8 := dkwX4_unlike_5 ++ dktX4_unlike_6
def dkwX4_unlike_4 : List UInt8 := [180, 0, 60, 21, 9, 47, 42, 180, 0, 60, 21, 6, 47, 148, 154, 0, 25, 42, 180, 0, 63, 21, 9, 47]
abbrev dktX4_unlike_4 : List UInt8 := dkwX4_unlike_4 ++ dktX4_unlike_5
def dkwX4_unlike_3 : List UInt8 := [21, 6, 28, 163, 0, 140, 3, 54, 7, 4, 54, 8, 4, 54, 9, 21, 9, 28, 163, 0, 86, 42]
abbrev dktX4_unlike_3 : List UInt8 := dkwX4_unlike_3 ++ dktX4_unlike_4
def dkwX4_unlike_2 : List UInt8 := [29, 42, 180, 0, 100, 80, 132, 3, 1, 167, 255, 221, 3, 62, 3, 54, 4, 3, 54, 5, 4, 54, 6]
abbrev dktX4_unlike_2 : List UInt8 := dkwX4_unlike_2 ++ dktX4_unlike_3
def dkwX4_unlike_1 : List UInt8 := [163, 0, 36, 42, 27, 3, 29, 182, 1, 24, 42, 180, 0, 60, 29, 42, 180, 0, 96, 80, 42, 180, 0, 63]
abbrev dktX4_unlike_1 : List UInt8 := dkwX4_unlike_1 ++ dktX4_unlike_2
def dkwX4_unlike_0 : List UInt8 := [42, 3, 181, 0, 1, 27, 184, 0, 237, 154, 0, 5, 2, 172, 42, 27, 182, 0, 187, 61, 4, 62, 29, 28]
abbrev dktX4_unlike_0 : List UInt8 := dkwX4_unlike_0 ++ dktX4_unlike_1
theorem dksX4_unlike_0 : cX4_unlike.data.toList.drop 0 = dktX4_unlike_0 := by decide +kernel
theorem dksX4_unlike_1 : cX4_unlike.data.toList.drop 24 = dktX4_unlike_1 := dk_seg dksX4_unlike_0 24 rfl rfl
theorem dksX4_unlike_2 : cX4_unlike.data.toList.drop 48 = dktX4_unlike_2 := dk_seg dksX4_unlike_1 24 rfl rfl
theorem dksX4_unlike_3 : cX4_unlike.data.toList.drop 71 = dktX4_unlike_3 := dk_seg dksX4_unlike_2 23 rfl rfl
theorem dksX4_unlike_4 : cX4_unlike.data.toList.drop 93 = dktX4_unlike_4 := dk_seg dksX4_unlike_3 22 rfl rfl
theorem dksX4_unlike_5 : cX4_unlike.data.toList.drop 117 = dktX4_unlike_5 := dk_seg dksX4_unlike_4 24 rfl rfl
theorem dksX4_unlike_6 : cX4_unlike.data.toList.drop 139 = dktX4_unlike_6 := dk_seg dksX4_unlike_5 22 rfl rfl
theorem dksX4_unlike_7 : cX4_unlike.data.toList.drop 163 = dktX4_unlike_7 := dk_seg dksX4_unlike_6 24 rfl rfl
theorem dksX4_unlike_8 : cX4_unlike.data.toList.drop 187 = dktX4_unlike_8 := dk_seg dksX4_unlike_7 24 rfl rfl
theorem dksX4_unlike_9 : cX4_unlike.data.toList.drop 211 = dktX4_unlike_9 := dk_seg dksX4_unlike_8 24 rfl rfl
theorem dksX4_unlike_10 : cX4_unlike.data.toList.drop 235 = dktX4_unlike_10 := dk_seg dksX4_unlike_9 24 rfl rfl
theorem dX4_unlike_0 : decode cX4_unlike 0 = .ok (.aload_n 0, 1) := dk_42 (dk_at dksX4_unlike_0 0 rfl rfl)
theorem dX4_unlike_1 : decode cX4_unlike 1 = .ok (.iconst 0, 1) := dk_3 (dk_at dksX4_unlike_0 1 rfl rfl)
theorem dX4_unlike_2 : decode cX4_unlike 2 = .ok (.putfield 1, 3) := dk_181 0 1 (dk_at dksX4_unlike_0 2 rfl rfl)
theorem dX4_unlike_5 : decode cX4_unlike 5 = .ok (.iload_n 1, 1) := dk_27 (dk_at dksX4_unlike_0 5 rfl rfl)
theorem dX4_unlike_6 : decode cX4_unlike 6 = .ok (.invokestatic 237, 3) := dk_184 0 237 (dk_at dksX4_unlike_0 6 rfl rfl)
theorem dX4_unlike_9 : decode cX4_unlike 9 = .ok (.ifCond .ne 5, 3) := dk_154 0 5 (dk_at dksX4_unlike_0 9 rfl rfl)
theorem dX4_unlike_12 : decode cX4_unlike 12 = .ok (.iconst (-1), 1) := dk_2 (dk_at dksX4_unlike_0 12 rfl rfl)
theorem dX4_unlike_13 : decode cX4_unlike 13 = .ok (.ireturn, 1) := dk_172 (dk_at dksX4_unlike_0 13 rfl rfl)
theorem dX4_unlike_14 : decode cX4_unlike 14 = .ok (.aload_n 0, 1) := dk_42 (dk_at dksX4_unlike_0 14 rfl rfl)
theorem dX4_unlike_15 : decode cX4_unlike 15 = .ok (.iload_n 1, 1) := dk_27 (dk_at dksX4_unlike_0 15 rfl rfl)
theorem dX4_unlike_16 : decode cX4_unlike 16 = .ok (.invokevirtual 187, 3) := dk_182 0 187 (dk_at dksX4_unlike_0 16 rfl rfl)
theorem dX4_unlike_19 : decode cX4_unlike 19 = .ok (.istore_n 2, 1) := dk_61 (dk_at dksX4_unlike_0 19 rfl rfl)
theorem dX4_unlike_20 : decode cX4_unlike 20 = .ok (.iconst 1, 1) := dk_4 (dk_at dksX4_unlike_0 20 rfl rfl)
theorem dX4_unlike_21 : decode cX4_unlike 21 = .ok (.istore_n 3, 1) := dk_62 (dk_at dksX4_unlike_0 21 rfl rfl)
theorem dX4_unlike_22 : decode cX4_unlike 22 = .ok (.iload_n 3, 1) := dk_29 (dk_at dksX4_unlike_0 22 rfl rfl)
theorem dX4_unlike_23 : decode cX4_unlike 23 = .ok (.iload_n 2, 1) := dk_28 (dk_at dksX4_unlike_0 23 rfl rfl)
theorem dX4_unlike_24 : decode cX4_unlike 24 = .ok (.if_icmp .gt 36, 3) := dk_163 0 36 (dk_at dksX4_unlike_1 0 rfl rfl)
theorem dX4_unlike_27 : decode cX4_unlike 27 = .ok (.aload_n 0, 1) := dk_42 (dk_at dksX4_unlike_1 3 rfl rfl)
theorem dX4_unlike_28 : decode cX4_unlike 28 = .ok (.iload_n 1, 1) := dk_27 (dk_at dksX4_unlike_1 4 rfl rfl)
theorem dX4_unlike_29 : decode cX4_unlike 29 = .ok (.iconst 0, 1) := dk_3 (dk_at dksX4_unlike_1 5 rfl rfl)
theorem dX4_unlike_30 : decode cX4_unlike 30 = .ok (.iload_n 3, 1) := dk_29 (dk_at dksX4_unlike_1 6 rfl rfl)
theorem dX4_unlike_31 : decode cX4_unlike 31 = .ok (.invokevirtual 280, 3) := dk_182 1 24 (dk_at dksX4_unlike_1 7 rfl rfl)
theorem dX4_unlike_34 : decode cX4_unlike 34 = .ok (.aload_n 0, 1) := dk_42 (dk_at dksX4_unlike_1 10 rfl rfl)
theorem dX4_unlike_35 : decode cX4_unlike 35 = .ok (.getfield 60, 3) := dk_180 0 60 (dk_at dksX4_unlike_1 11 rfl rfl)
theorem dX4_unlike_38 : decode cX4_unlike 38 = .ok (.iload_n 3, 1) := dk_29 (dk_at dksX4_unlike_1 14 rfl rfl)
theorem dX4_unlike_39 : decode cX4_unlike 39 = .ok (.aload_n 0, 1) := dk_42 (dk_at dksX4_unlike_1 15 rfl rfl)
theorem dX4_unlike_40 : decode cX4_unlike 40 = .ok (.getfield 96, 3) := dk_180 0 96 (dk_at dksX4_unlike_1 16 rfl rfl)
theorem dX4_unlike_43 : decode cX4_unlike 43 = .ok (.lastore, 1) := dk_80 (dk_at dksX4_unlike_1 19 rfl rfl)
theorem dX4_unlike_44 : decode cX4_unlike 44 = .ok (.aload_n 0, 1) := dk_42 (dk_at dksX4_unlike_1 20 rfl rfl)
theorem dX4_unlike_45 : decode cX4_unlike 45 = .ok (.getfield 63, 3) := dk_180 0 63 (dk_at dksX4_unlike_1 21 rfl rfl)
theorem dX4_unlike_48 : decode cX4_unlike 48 = .ok (.iload_n 3, 1) := dk_29 (dk_at dksX4_unlike_2 0 rfl rfl)
theorem dX4_unlike_49 : decode cX4_unlike 49 = .ok (.aload_n 0, 1) := dk_42 (dk_at dksX4_unlike_2 1 rfl rfl)
theorem dX4_unlike_50 : decode cX4_unlike 50 = .ok (.getfield 100, 3) := dk_180 0 100 (dk_at dksX4_unlike_2 2 rfl rfl)
theorem dX4_unlike_53 : decode cX4_unlike 53 = .ok (.lastore, 1) := dk_80 (dk_at dksX4_unlike_2 5 rfl rfl)
theorem dX4_unlike_54 : decode cX4_unlike 54 = .ok (.iinc 3 1, 3) := dk_132 3 1 (dk_at dksX4_unlike_2 6 rfl rfl)
theorem dX4_unlike_57 : decode cX4_unlike 57 = .ok (.goto (-35), 3) := dk_167 255 221 (dk_at dksX4_unlike_2 9 rfl rfl)
theorem dX4_unlike_60 : decode cX4_unlike 60 = .ok (.iconst 0, 1) := dk_3 (dk_at dksX4_unlike_2 12 rfl rfl)
theorem dX4_unlike_61 : decode cX4_unlike 61 = .ok (.istore_n 3, 1) := dk_62 (dk_at dksX4_unlike_2 13 rfl rfl)
theorem dX4_unlike_62 : decode cX4_unlike 62 = .ok (.iconst 0, 1) := dk_3 (dk_at dksX4_unlike_2 14 rfl rfl)
theorem dX4_unlike_63 : decode cX4_unlike 63 = .ok (.istore 4, 2) := dk_54 4 (dk_at dksX4_unlike_2 15 rfl rfl)
theorem dX4_unlike_65 : decode cX4_unlike 65 = .ok (.iconst 0, 1) := dk_3 (dk_at dksX4_unlike_2 17 rfl rfl)
theorem dX4_unlike_66 : decode cX4_unlike 66 = .ok (.istore 5, 2) := dk_54 5 (dk_at dksX4_unlike_2 18 rfl rfl)
theorem dX4_unlike_68 : decode cX4_unlike 68 = .ok (.iconst 1, 1) := dk_4 (dk_at dksX4_unlike_2 20 rfl rfl)
theorem dX4_unlike_69 : decode cX4_unlike 69 = .ok (.istore 6, 2) := dk_54 6 (dk_at dksX4_unlike_2 21 rfl rfl)
theorem dX4_unlike_71 : decode cX4_unlike 71 = .ok (.iload 6, 2) := dk_21 6 (dk_at dksX4_unlike_3 0 rfl rfl)
theorem dX4_unlike_73 : decode cX4_unlike 73 = .ok (.iload_n 2, 1) := dk_28 (dk_at dksX4_unlike_3 2 rfl rfl)
theorem dX4_unlike_74 : decode cX4_unlike 74 = .ok (.if_icmp .gt 140, 3) := dk_163 0 140 (dk_at dksX4_unlike_3 3 rfl rfl)
theorem dX4_unlike_77 : decode cX4_unlike 77 = .ok (.iconst 0, 1) := dk_3 (dk_at dksX4_unlike_3 6 rfl rfl)
theorem dX4_unlike_78 : decode cX4_unlike 78 = .ok (.istore 7, 2) := dk_54 7 (dk_at dksX4_unlike_3 7 rfl rfl)
theorem dX4_unlike_80 : decode cX4_unlike 80 = .ok (.iconst 1, 1) := dk_4 (dk_at dksX4_unlike_3 9 rfl rfl)
theorem dX4_unlike_81 : decode cX4_unlike 81 = .ok (.istore 8, 2) := dk_54 8 (dk_at dksX4_unlike_3 10 rfl rfl)
theorem dX4_unlike_83 : decode cX4_unlike 83 = .ok (.iconst 1, 1) := dk_4 (dk_at dksX4_unlike_3 12 rfl rfl)
theorem dX4_unlike_84 : decode cX4_unlike 84 = .ok (.istore 9, 2) := dk_54 9 (dk_at dksX4_unlike_3 13 rfl rfl)
theorem dX4_unlike_86 : decode cX4_unlike 86 = .ok (.iload 9, 2) := dk_21 9 (dk_at dksX4_unlike_3 15 rfl rfl)
theorem dX4_unlike_88 : decode cX4_unlike 88 = .ok (.iload_n 2, 1) := dk_28 (dk_at dksX4_unlike_3 17 rfl rfl)
theorem dX4_unlike_89 : decode cX4_unlike 89 = .ok (.if_icmp .gt 86, 3) := dk_163 0 86 (dk_at dksX4_unlike_3 18 rfl rfl)
theorem dX4_unlike_92 : decode cX4_unlike 92 = .ok (.aload_n 0, 1) := dk_42 (dk_at dksX4_unlike_3 21 rfl rfl)
theorem dX4_unlike_93 : decode cX4_unlike 93 = .ok (.getfield 60, 3) := dk_180 0 60 (dk_at dksX4_unlike_4 0 rfl rfl)
theorem dX4_unlike_96 : decode cX4_unlike 96 = .ok (.iload 9, 2) := dk_21 9 (dk_at dksX4_unlike_4 3 rfl rfl)
theorem dX4_unlike_98 : decode cX4_unlike 98 = .ok (.laload, 1) := dk_47 (dk_at dksX4_unlike_4 5 rfl rfl)
theorem dX4_unlike_99 : decode cX4_unlike 99 = .ok (.aload_n 0, 1) := dk_42 (dk_at dksX4_unlike_4 6 rfl rfl)
theorem dX4_unlike_100 : decode cX4_unlike 100 = .ok (.getfield 60, 3) := dk_180 0 60 (dk_at dksX4_unlike_4 7 rfl rfl)
theorem dX4_unlike_103 : decode cX4_unlike 103 = .ok (.iload 6, 2) := dk_21 6 (dk_at dksX4_unlike_4 10 rfl rfl)
theorem dX4_unlike_105 : decode cX4_unlike 105 = .ok (.laload, 1) := dk_47 (dk_at dksX4_unlike_4 12 rfl rfl)
theorem dX4_unlike_106 : decode cX4_unlike 106 = .ok (.lcmp, 1) := dk_148 (dk_at dksX4_unlike_4 13 rfl rfl)
theorem dX4_unlike_107 : decode cX4_unlike 107 = .ok (.ifCond .ne 25, 3) := dk_154 0 25 (dk_at dksX4_unlike_4 14 rfl rfl)
theorem dX4_unlike_110 : decode cX4_unlike 110 = .ok (.aload_n 0, 1) := dk_42 (dk_at dksX4_unlike_4 17 rfl rfl)
theorem dX4_unlike_111 : decode cX4_unlike 111 = .ok (.getfield 63, 3) := dk_180 0 63 (dk_at dksX4_unlike_4 18 rfl rfl)
theorem dX4_unlike_114 : decode cX4_unlike 114 = .ok (.iload 9, 2) := dk_21 9 (dk_at dksX4_unlike_4 21 rfl rfl)
theorem dX4_unlike_116 : decode cX4_unlike 116 = .ok (.laload, 1) := dk_47 (dk_at dksX4_unlike_4 23 rfl rfl)
theorem dX4_unlike_117 : decode cX4_unlike 117 = .ok (.aload_n 0, 1) := dk_42 (dk_at dksX4_unlike_5 0 rfl rfl)
theorem dX4_unlike_118 : decode cX4_unlike 118 = .ok (.getfield 63, 3) := dk_180 0 63 (dk_at dksX4_unlike_5 1 rfl rfl)
theorem dX4_unlike_121 : decode cX4_unlike 121 = .ok (.iload 6, 2) := dk_21 6 (dk_at dksX4_unlike_5 4 rfl rfl)
theorem dX4_unlike_123 : decode cX4_unlike 123 = .ok (.laload, 1) := dk_47 (dk_at dksX4_unlike_5 6 rfl rfl)
theorem dX4_unlike_124 : decode cX4_unlike 124 = .ok (.lcmp, 1) := dk_148 (dk_at dksX4_unlike_5 7 rfl rfl)
theorem dX4_unlike_125 : decode cX4_unlike 125 = .ok (.ifCond .ne 7, 3) := dk_154 0 7 (dk_at dksX4_unlike_5 8 rfl rfl)
theorem dX4_unlike_128 : decode cX4_unlike 128 = .ok (.iconst 1, 1) := dk_4 (dk_at dksX4_unlike_5 11 rfl rfl)
theorem dX4_unlike_129 : decode cX4_unlike 129 = .ok (.goto 4, 3) := dk_167 0 4 (dk_at dksX4_unlike_5 12 rfl rfl)
theorem dX4_unlike_132 : decode cX4_unlike 132 = .ok (.iconst 0, 1) := dk_3 (dk_at dksX4_unlike_5 15 rfl rfl)
theorem dX4_unlike_133 : decode cX4_unlike 133 = .ok (.istore 10, 2) := dk_54 10 (dk_at dksX4_unlike_5 16 rfl rfl)
theorem dX4_unlike_135 : decode cX4_unlike 135 = .ok (.iload 7, 2) := dk_21 7 (dk_at dksX4_unlike_5 18 rfl rfl)
theorem dX4_unlike_137 : decode cX4_unlike 137 = .ok (.iload 10, 2) := dk_21 10 (dk_at dksX4_unlike_5 20 rfl rfl)
theorem dX4_unlike_139 : decode cX4_unlike 139 = .ok (.invokestatic 31, 3) := dk_184 0 31 (dk_at dksX4_unlike_6 0 rfl rfl)
theorem dX4_unlike_142 : decode cX4_unlike 142 = .ok (.iadd, 1) := dk_96 (dk_at dksX4_unlike_6 3 rfl rfl)
theorem dX4_unlike_143 : decode cX4_unlike 143 = .ok (.istore 7, 2) := dk_54 7 (dk_at dksX4_unlike_6 4 rfl rfl)
theorem dX4_unlike_145 : decode cX4_unlike 145 = .ok (.iload 8, 2) := dk_21 8 (dk_at dksX4_unlike_6 6 rfl rfl)
theorem dX4_unlike_147 : decode cX4_unlike 147 = .ok (.ifCond .eq 19, 3) := dk_153 0 19 (dk_at dksX4_unlike_6 8 rfl rfl)
theorem dX4_unlike_150 : decode cX4_unlike 150 = .ok (.iload 10, 2) := dk_21 10 (dk_at dksX4_unlike_6 11 rfl rfl)
theorem dX4_unlike_152 : decode cX4_unlike 152 = .ok (.ifCond .eq 10, 3) := dk_153 0 10 (dk_at dksX4_unlike_6 13 rfl rfl)
theorem dX4_unlike_155 : decode cX4_unlike 155 = .ok (.iload 9, 2) := dk_21 9 (dk_at dksX4_unlike_6 16 rfl rfl)
theorem dX4_unlike_157 : decode cX4_unlike 157 = .ok (.iload 6, 2) := dk_21 6 (dk_at dksX4_unlike_6 18 rfl rfl)
theorem dX4_unlike_159 : decode cX4_unlike 159 = .ok (.if_icmp .lt 7, 3) := dk_161 0 7 (dk_at dksX4_unlike_6 20 rfl rfl)
theorem dX4_unlike_162 : decode cX4_unlike 162 = .ok (.iconst 1, 1) := dk_4 (dk_at dksX4_unlike_6 23 rfl rfl)
theorem dX4_unlike_163 : decode cX4_unlike 163 = .ok (.goto 4, 3) := dk_167 0 4 (dk_at dksX4_unlike_7 0 rfl rfl)
theorem dX4_unlike_166 : decode cX4_unlike 166 = .ok (.iconst 0, 1) := dk_3 (dk_at dksX4_unlike_7 3 rfl rfl)
theorem dX4_unlike_167 : decode cX4_unlike 167 = .ok (.istore 8, 2) := dk_54 8 (dk_at dksX4_unlike_7 4 rfl rfl)
theorem dX4_unlike_169 : decode cX4_unlike 169 = .ok (.iinc 9 1, 3) := dk_132 9 1 (dk_at dksX4_unlike_7 6 rfl rfl)
theorem dX4_unlike_172 : decode cX4_unlike 172 = .ok (.goto (-86), 3) := dk_167 255 170 (dk_at dksX4_unlike_7 9 rfl rfl)
theorem dX4_unlike_175 : decode cX4_unlike 175 = .ok (.iload_n 3, 1) := dk_29 (dk_at dksX4_unlike_7 12 rfl rfl)
theorem dX4_unlike_176 : decode cX4_unlike 176 = .ok (.iload 8, 2) := dk_21 8 (dk_at dksX4_unlike_7 13 rfl rfl)
theorem dX4_unlike_178 : decode cX4_unlike 178 = .ok (.invokestatic 31, 3) := dk_184 0 31 (dk_at dksX4_unlike_7 15 rfl rfl)
theorem dX4_unlike_181 : decode cX4_unlike 181 = .ok (.iadd, 1) := dk_96 (dk_at dksX4_unlike_7 18 rfl rfl)
theorem dX4_unlike_182 : decode cX4_unlike 182 = .ok (.istore_n 3, 1) := dk_62 (dk_at dksX4_unlike_7 19 rfl rfl)
theorem dX4_unlike_183 : decode cX4_unlike 183 = .ok (.iload 7, 2) := dk_21 7 (dk_at dksX4_unlike_7 20 rfl rfl)
theorem dX4_unlike_185 : decode cX4_unlike 185 = .ok (.iload 5, 2) := dk_21 5 (dk_at dksX4_unlike_7 22 rfl rfl)
theorem dX4_unlike_187 : decode cX4_unlike 187 = .ok (.if_icmp .le 8, 3) := dk_164 0 8 (dk_at dksX4_unlike_8 0 rfl rfl)
theorem dX4_unlike_190 : decode cX4_unlike 190 = .ok (.iload 6, 2) := dk_21 6 (dk_at dksX4_unlike_8 3 rfl rfl)
theorem dX4_unlike_192 : decode cX4_unlike 192 = .ok (.goto 5, 3) := dk_167 0 5 (dk_at dksX4_unlike_8 5 rfl rfl)
theorem dX4_unlike_195 : decode cX4_unlike 195 = .ok (.iload 4, 2) := dk_21 4 (dk_at dksX4_unlike_8 8 rfl rfl)
theorem dX4_unlike_197 : decode cX4_unlike 197 = .ok (.istore 4, 2) := dk_54 4 (dk_at dksX4_unlike_8 10 rfl rfl)
theorem dX4_unlike_199 : decode cX4_unlike 199 = .ok (.iload 5, 2) := dk_21 5 (dk_at dksX4_unlike_8 12 rfl rfl)
theorem dX4_unlike_201 : decode cX4_unlike 201 = .ok (.iload 7, 2) := dk_21 7 (dk_at dksX4_unlike_8 14 rfl rfl)
theorem dX4_unlike_203 : decode cX4_unlike 203 = .ok (.invokestatic 303, 3) := dk_184 1 47 (dk_at dksX4_unlike_8 16 rfl rfl)
theorem dX4_unlike_206 : decode cX4_unlike 206 = .ok (.istore 5, 2) := dk_54 5 (dk_at dksX4_unlike_8 19 rfl rfl)
theorem dX4_unlike_208 : decode cX4_unlike 208 = .ok (.iinc 6 1, 3) := dk_132 6 1 (dk_at dksX4_unlike_8 21 rfl rfl)
theorem dX4_unlike_211 : decode cX4_unlike 211 = .ok (.goto (-140), 3) := dk_167 255 116 (dk_at dksX4_unlike_9 0 rfl rfl)
theorem dX4_unlike_214 : decode cX4_unlike 214 = .ok (.aload_n 0, 1) := dk_42 (dk_at dksX4_unlike_9 3 rfl rfl)
theorem dX4_unlike_215 : decode cX4_unlike 215 = .ok (.iconst 0, 1) := dk_3 (dk_at dksX4_unlike_9 4 rfl rfl)
theorem dX4_unlike_216 : decode cX4_unlike 216 = .ok (.putfield 11, 3) := dk_181 0 11 (dk_at dksX4_unlike_9 5 rfl rfl)
theorem dX4_unlike_219 : decode cX4_unlike 219 = .ok (.iload_n 2, 1) := dk_28 (dk_at dksX4_unlike_9 8 rfl rfl)
theorem dX4_unlike_220 : decode cX4_unlike 220 = .ok (.ifCond .le 32, 3) := dk_158 0 32 (dk_at dksX4_unlike_9 9 rfl rfl)
theorem dX4_unlike_223 : decode cX4_unlike 223 = .ok (.aload_n 0, 1) := dk_42 (dk_at dksX4_unlike_9 12 rfl rfl)
theorem dX4_unlike_224 : decode cX4_unlike 224 = .ok (.aload_n 0, 1) := dk_42 (dk_at dksX4_unlike_9 13 rfl rfl)
theorem dX4_unlike_225 : decode cX4_unlike 225 = .ok (.getfield 60, 3) := dk_180 0 60 (dk_at dksX4_unlike_9 14 rfl rfl)
theorem dX4_unlike_228 : decode cX4_unlike 228 = .ok (.iload 4, 2) := dk_21 4 (dk_at dksX4_unlike_9 17 rfl rfl)
theorem dX4_unlike_230 : decode cX4_unlike 230 = .ok (.laload, 1) := dk_47 (dk_at dksX4_unlike_9 19 rfl rfl)
theorem dX4_unlike_231 : decode cX4_unlike 231 = .ok (.invokevirtual 164, 3) := dk_182 0 164 (dk_at dksX4_unlike_9 20 rfl rfl)
theorem dX4_unlike_234 : decode cX4_unlike 234 = .ok (.aload_n 0, 1) := dk_42 (dk_at dksX4_unlike_9 23 rfl rfl)
theorem dX4_unlike_235 : decode cX4_unlike 235 = .ok (.aload_n 0, 1) := dk_42 (dk_at dksX4_unlike_10 0 rfl rfl)
theorem dX4_unlike_236 : decode cX4_unlike 236 = .ok (.getfield 63, 3) := dk_180 0 63 (dk_at dksX4_unlike_10 1 rfl rfl)
theorem dX4_unlike_239 : decode cX4_unlike 239 = .ok (.iload 4, 2) := dk_21 4 (dk_at dksX4_unlike_10 4 rfl rfl)
theorem dX4_unlike_241 : decode cX4_unlike 241 = .ok (.laload, 1) := dk_47 (dk_at dksX4_unlike_10 6 rfl rfl)
theorem dX4_unlike_242 : decode cX4_unlike 242 = .ok (.invokevirtual 164, 3) := dk_182 0 164 (dk_at dksX4_unlike_10 7 rfl rfl)
theorem dX4_unlike_245 : decode cX4_unlike 245 = .ok (.aload_n 0, 1) := dk_42 (dk_at dksX4_unlike_10 10 rfl rfl)
theorem dX4_unlike_246 : decode cX4_unlike 246 = .ok (.iload 5, 2) := dk_21 5 (dk_at dksX4_unlike_10 11 rfl rfl)
theorem dX4_unlike_248 : decode cX4_unlike 248 = .ok (.i2l, 1) := dk_133 (dk_at dksX4_unlike_10 13 rfl rfl)
theorem dX4_unlike_249 : decode cX4_unlike 249 = .ok (.invokevirtual 164, 3) := dk_182 0 164 (dk_at dksX4_unlike_10 14 rfl rfl)
theorem dX4_unlike_252 : decode cX4_unlike 252 = .ok (.iload_n 3, 1) := dk_29 (dk_at dksX4_unlike_10 17 rfl rfl)
theorem dX4_unlike_253 : decode cX4_unlike 253 = .ok (.ireturn, 1) := dk_172 (dk_at dksX4_unlike_10 18 rfl rfl)
def dkwX4_same_7 : List UInt8 := [4, 167, 0, 4, 3, 184, 0, 31, 133, 182, 0, 164, 42, 21, 4, 133, 182, 0, 164, 29, 184, 0, 31, 172]
abbrev dktX4_same_7 : List UInt8 := dkwX4_same_7 ++ []
def dkwX4_same_6 : List UInt8 := [181, 0, 11, 42, 22, 5, 42, 180, 0, 96, 148, 154, 0, 17, 22, 7, 42, 180, 0, 100, 148, 154, 0, 7]
abbrev dktX4_same_6 : List UInt8 := dkwX4_same_6 ++ dktX4_same_7
def dkwX4_same_5 : List UInt8 := [182, 1, 7, 42, 180, 0, 96, 55, 5, 42, 180, 0, 100, 55, 7, 42, 28, 182, 1, 7, 42, 3]
abbrev dktX4_same_5 : List UInt8 := dkwX4_same_5 ++ dktX4_same_6
def dkwX4_same_4 : List UInt8 := [21, 5, 182, 0, 181, 46, 182, 1, 49, 184, 0, 31, 96, 54, 4, 132, 5, 1, 167, 255, 191, 42, 27]
abbrev dktX4_same_4 : List UInt8 := dkwX4_same_4 ++ dktX4_same_5
def dkwX4_same_3 : List UInt8 := [21, 5, 182, 0, 190, 160, 0, 7, 4, 167, 0, 4, 3, 62, 21, 4, 42, 28, 42, 180, 0, 69, 42, 27]
abbrev dktX4_same_3 : List UInt8 := dkwX4_same_3 ++ dktX4_same_4
def dkwX4_same_2 : List UInt8 := [21, 5, 42, 27, 182, 0, 187, 162, 0, 61, 29, 153, 0, 24, 42, 27, 21, 5, 182, 0, 190, 42, 28]
abbrev dktX4_same_2 : List UInt8 := dkwX4_same_2 ++ dktX4_same_3
def dkwX4_same_1 : List UInt8 := [182, 0, 187, 42, 28, 182, 0, 187, 160, 0, 7, 4, 167, 0, 4, 3, 62, 3, 54, 4, 3, 54, 5]
abbrev dktX4_same_1 : List UInt8 := dkwX4_same_1 ++ dktX4_same_2
def dkwX4_same_0 : List UInt8 := [42, 3, 181, 0, 1, 27, 184, 0, 237, 153, 0, 10, 28, 184, 0, 237, 154, 0, 5, 2, 172, 42, 27]
abbrev dktX4_same_0 : List UInt8 := dkwX4_same_0 ++ dktX4_same_1
theorem dksX4_same_0 : cX4_same.data.toList.drop 0 = dktX4_same_0 := by decide +kernel
theorem dksX4_same_1 : cX4_same.data.toList.drop 23 = dktX4_same_1 := dk_seg dksX4_same_0 23 rfl rfl
theorem dksX4_same_2 : cX4_same.data.toList.drop 46 = dktX4_same_2 := dk_seg dksX4_same_1 23 rfl rfl
theorem dksX4_same_3 : cX4_same.data.toList.drop 69 = dktX4_same_3 := dk_seg dksX4_same_2 23 rfl rfl
theorem dksX4_same_4 : cX4_same.data.toList.drop 93 = dktX4_same_4 := dk_seg dksX4_same_3 24 rfl rfl
theorem dksX4_same_5 : cX4_same.data.toList.drop 116 = dktX4_same_5 := dk_seg dksX4_same_4 23 rfl rfl
theorem dksX4_same_6 : cX4_same.data.toList.drop 138 = dktX4_same_6 := dk_seg dksX4_same_5 22 rfl rfl
theorem dksX4_same_7 : cX4_same.data.toList.drop 162 = dktX4_same_7 := dk_seg dksX4_same_6 24 rfl rfl
theorem dX4_same_0 : decode cX4_same 0 = .ok (.aload_n 0, 1) := dk_42 (dk_at dksX4_same_0 0 rfl rfl)
theorem dX4_same_1 : decode cX4_same 1 = .ok (.iconst 0, 1) := dk_3 (dk_at dksX4_same_0 1 rfl rfl)
theorem dX4_same_2 : decode cX4_same 2 = .ok (.putfield 1, 3) := dk_181 0 1 (dk_at dksX4_same_0 2 rfl rfl)
theorem dX4_same_5 : decode cX4_same 5 = .ok (.iload_n 1, 1) := dk_27 (dk_at dksX4_same_0 5 rfl rfl)
theorem dX4_same_6 : decode cX4_same 6 = .ok (.invokestatic 237, 3) := dk_184 0 237 (dk_at dksX4_same_0 6 rfl rfl)
theorem dX4_same_9 : decode cX4_same 9 = .ok (.ifCond .eq 10, 3) := dk_153 0 10 (dk_at dksX4_same_0 9 rfl rfl)
theorem dX4_same_12 : decode cX4_same 12 = .ok (.iload_n 2, 1) := dk_28 (dk_at dksX4_same_0 12 rfl rfl)
theorem dX4_same_13 : decode cX4_same 13 = .ok (.invokestatic 237, 3) := dk_184 0 237 (dk_at dksX4_same_0 13 rfl rfl)
theorem dX4_same_16 : decode cX4_same 16 = .ok (.ifCond .ne 5, 3) := dk_154 0 5 (dk_at dksX4_same_0 16 rfl rfl)
theorem dX4_same_19 : decode cX4_same 19 = .ok (.iconst (-1), 1) := dk_2 (dk_at dksX4_same_0 19 rfl rfl)
theorem dX4_same_20 : decode cX4_same 20 = .ok (.ireturn, 1) := dk_172 (dk_at dksX4_same_0 20 rfl rfl)
theorem dX4_same_21 : decode cX4_same 21 = .ok (.aload_n 0, 1) := dk_42 (dk_at dksX4_same_0 21 rfl rfl)
theorem dX4_same_22 : decode cX4_same 22 = .ok (.iload_n 1, 1) := dk_27 (dk_at dksX4_same_0 22 rfl rfl)
theorem dX4_same_23 : decode cX4_same 23 = .ok (.invokevirtual 187, 3) := dk_182 0 187 (dk_at dksX4_same_1 0 rfl rfl)
theorem dX4_same_26 : decode cX4_same 26 = .ok (.aload_n 0, 1) := dk_42 (dk_at dksX4_same_1 3 rfl rfl)
theorem dX4_same_27 : decode cX4_same 27 = .ok (.iload_n 2, 1) := dk_28 (dk_at dksX4_same_1 4 rfl rfl)
theorem dX4_same_28 : decode cX4_same 28 = .ok (.invokevirtual 187, 3) := dk_182 0 187 (dk_at dksX4_same_1 5 rfl rfl)
theorem dX4_same_31 : decode cX4_same 31 = .ok (.if_icmp .ne 7, 3) := dk_160 0 7 (dk_at dksX4_same_1 8 rfl rfl)
theorem dX4_same_34 : decode cX4_same 34 = .ok (.iconst 1, 1) := dk_4 (dk_at dksX4_same_1 11 rfl rfl)
theorem dX4_same_35 : decode cX4_same 35 = .ok (.goto 4, 3) := dk_167 0 4 (dk_at dksX4_same_1 12 rfl rfl)
theorem dX4_same_38 : decode cX4_same 38 = .ok (.iconst 0, 1) := dk_3 (dk_at dksX4_same_1 15 rfl rfl)
theorem dX4_same_39 : decode cX4_same 39 = .ok (.istore_n 3, 1) := dk_62 (dk_at dksX4_same_1 16 rfl rfl)
theorem dX4_same_40 : decode cX4_same 40 = .ok (.iconst 0, 1) := dk_3 (dk_at dksX4_same_1 17 rfl rfl)
theorem dX4_same_41 : decode cX4_same 41 = .ok (.istore 4, 2) := dk_54 4 (dk_at dksX4_same_1 18 rfl rfl)
theorem dX4_same_43 : decode cX4_same 43 = .ok (.iconst 0, 1) := dk_3 (dk_at dksX4_same_1 20 rfl rfl)
theorem dX4_same_44 : decode cX4_same 44 = .ok (.istore 5, 2) := dk_54 5 (dk_at dksX4_same_1 21 rfl rfl)
theorem dX4_same_46 : decode cX4_same 46 = .ok (.iload 5, 2) := dk_21 5 (dk_at dksX4_same_2 0 rfl rfl)
theorem dX4_same_48 : decode cX4_same 48 = .ok (.aload_n 0, 1) := dk_42 (dk_at dksX4_same_2 2 rfl rfl)
theorem dX4_same_49 : decode cX4_same 49 = .ok (.iload_n 1, 1) := dk_27 (dk_at dksX4_same_2 3 rfl rfl)
theorem dX4_same_50 : decode cX4_same 50 = .ok (.invokevirtual 187, 3) := dk_182 0 187 (dk_at dksX4_same_2 4 rfl rfl)
theorem dX4_same_53 : decode cX4_same 53 = .ok (.if_icmp .ge 61, 3) := dk_162 0 61 (dk_at dksX4_same_2 7 rfl rfl)
theorem dX4_same_56 : decode cX4_same 56 = .ok (.iload_n 3, 1) := dk_29 (dk_at dksX4_same_2 10 rfl rfl)
theorem dX4_same_57 : decode cX4_same 57 = .ok (.ifCond .eq 24, 3) := dk_153 0 24 (dk_at dksX4_same_2 11 rfl rfl)
theorem dX4_same_60 : decode cX4_same 60 = .ok (.aload_n 0, 1) := dk_42 (dk_at dksX4_same_2 14 rfl rfl)
theorem dX4_same_61 : decode cX4_same 61 = .ok (.iload_n 1, 1) := dk_27 (dk_at dksX4_same_2 15 rfl rfl)
theorem dX4_same_62 : decode cX4_same 62 = .ok (.iload 5, 2) := dk_21 5 (dk_at dksX4_same_2 16 rfl rfl)
theorem dX4_same_64 : decode cX4_same 64 = .ok (.invokevirtual 190, 3) := dk_182 0 190 (dk_at dksX4_same_2 18 rfl rfl)
theorem dX4_same_67 : decode cX4_same 67 = .ok (.aload_n 0, 1) := dk_42 (dk_at dksX4_same_2 21 rfl rfl)
theorem dX4_same_68 : decode cX4_same 68 = .ok (.iload_n 2, 1) := dk_28 (dk_at dksX4_same_2 22 rfl rfl)
theorem dX4_same_69 : decode cX4_same 69 = .ok (.iload 5, 2) := dk_21 5 (dk_at dksX4_same_3 0 rfl rfl)
theorem dX4_same_71 : decode cX4_same 71 = .ok (.invokevirtual 190, 3) := dk_182 0 190 (dk_at dksX4_same_3 2 rfl rfl)
theorem dX4_same_74 : decode cX4_same 74 = .ok (.if_icmp .ne 7, 3) := dk_160 0 7 (dk_at dksX4_same_3 5 rfl rfl)
theorem dX4_same_77 : decode cX4_same 77 = .ok (.iconst 1, 1) := dk_4 (dk_at dksX4_same_3 8 rfl rfl)
theorem dX4_same_78 : decode cX4_same 78 = .ok (.goto 4, 3) := dk_167 0 4 (dk_at dksX4_same_3 9 rfl rfl)
theorem dX4_same_81 : decode cX4_same 81 = .ok (.iconst 0, 1) := dk_3 (dk_at dksX4_same_3 12 rfl rfl)
theorem dX4_same_82 : decode cX4_same 82 = .ok (.istore_n 3, 1) := dk_62 (dk_at dksX4_same_3 13 rfl rfl)
theorem dX4_same_83 : decode cX4_same 83 = .ok (.iload 4, 2) := dk_21 4 (dk_at dksX4_same_3 14 rfl rfl)
theorem dX4_same_85 : decode cX4_same 85 = .ok (.aload_n 0, 1) := dk_42 (dk_at dksX4_same_3 16 rfl rfl)
theorem dX4_same_86 : decode cX4_same 86 = .ok (.iload_n 2, 1) := dk_28 (dk_at dksX4_same_3 17 rfl rfl)
theorem dX4_same_87 : decode cX4_same 87 = .ok (.aload_n 0, 1) := dk_42 (dk_at dksX4_same_3 18 rfl rfl)
theorem dX4_same_88 : decode cX4_same 88 = .ok (.getfield 69, 3) := dk_180 0 69 (dk_at dksX4_same_3 19 rfl rfl)
theorem dX4_same_91 : decode cX4_same 91 = .ok (.aload_n 0, 1) := dk_42 (dk_at dksX4_same_3 22 rfl rfl)
theorem dX4_same_92 : decode cX4_same 92 = .ok (.iload_n 1, 1) := dk_27 (dk_at dksX4_same_3 23 rfl rfl)
theorem dX4_same_93 : decode cX4_same 93 = .ok (.iload 5, 2) := dk_21 5 (dk_at dksX4_same_4 0 rfl rfl)
theorem dX4_same_95 : decode cX4_same 95 = .ok (.invokevirtual 181, 3) := dk_182 0 181 (dk_at dksX4_same_4 2 rfl rfl)
theorem dX4_same_98 : decode cX4_same 98 = .ok (.iaload, 1) := dk_46 (dk_at dksX4_same_4 5 rfl rfl)
theorem dX4_same_99 : decode cX4_same 99 = .ok (.invokevirtual 305, 3) := dk_182 1 49 (dk_at dksX4_same_4 6 rfl rfl)
theorem dX4_same_102 : decode cX4_same 102 = .ok (.invokestatic 31, 3) := dk_184 0 31 (dk_at dksX4_same_4 9 rfl rfl)
theorem dX4_same_105 : decode cX4_same 105 = .ok (.iadd, 1) := dk_96 (dk_at dksX4_same_4 12 rfl rfl)
theorem dX4_same_106 : decode cX4_same 106 = .ok (.istore 4, 2) := dk_54 4 (dk_at dksX4_same_4 13 rfl rfl)
theorem dX4_same_108 : decode cX4_same 108 = .ok (.iinc 5 1, 3) := dk_132 5 1 (dk_at dksX4_same_4 15 rfl rfl)
theorem dX4_same_111 : decode cX4_same 111 = .ok (.goto (-65), 3) := dk_167 255 191 (dk_at dksX4_same_4 18 rfl rfl)
theorem dX4_same_114 : decode cX4_same 114 = .ok (.aload_n 0, 1) := dk_42 (dk_at dksX4_same_4 21 rfl rfl)
theorem dX4_same_115 : decode cX4_same 115 = .ok (.iload_n 1, 1) := dk_27 (dk_at dksX4_same_4 22 rfl rfl)
theorem dX4_same_116 : decode cX4_same 116 = .ok (.invokevirtual 263, 3) := dk_182 1 7 (dk_at dksX4_same_5 0 rfl rfl)
theorem dX4_same_119 : decode cX4_same 119 = .ok (.aload_n 0, 1) := dk_42 (dk_at dksX4_same_5 3 rfl rfl)
theorem dX4_same_120 : decode cX4_same 120 = .ok (.getfield 96, 3) := dk_180 0 96 (dk_at dksX4_same_5 4 rfl rfl)
theorem dX4_same_123 : decode cX4_same 123 = .ok (.lstore 5, 2) := dk_55 5 (dk_at dksX4_same_5 7 rfl rfl)
theorem dX4_same_125 : decode cX4_same 125 = .ok (.aload_n 0, 1) := dk_42 (dk_at dksX4_same_5 9 rfl rfl)
theorem dX4_same_126 : decode cX4_same 126 = .ok (.getfield 100, 3) := dk_180 0 100 (dk_at dksX4_same_5 10 rfl rfl)
theorem dX4_same_129 : decode cX4_same 129 = .ok (.lstore 7, 2) := dk_55 7 (dk_at dksX4_same_5 13 rfl rfl)
theorem dX4_same_131 : decode cX4_same 131 = .ok (.aload_n 0, 1) := dk_42 (dk_at dksX4_same_5 15 rfl rfl)
theorem dX4_same_132 : decode cX4_same 132 = .ok (.iload_n 2, 1) := dk_28 (dk_at dksX4_same_5 16 rfl rfl)
theorem dX4_same_133 : decode cX4_same 133 = .ok (.invokevirtual 263, 3) := dk_182 1 7 (dk_at dksX4_same_5 17 rfl rfl)
theorem dX4_same_136 : decode cX4_same 136 = .ok (.aload_n 0, 1) := dk_42 (dk_at dksX4_same_5 20 rfl rfl)
theorem dX4_same_137 : decode cX4_same 137 = .ok (.iconst 0, 1) := dk_3 (dk_at dksX4_same_5 21 rfl rfl)
theorem dX4_same_138 : decode cX4_same 138 = .ok (.putfield 11, 3) := dk_181 0 11 (dk_at dksX4_same_6 0 rfl rfl)
theorem dX4_same_141 : decode cX4_same 141 = .ok (.aload_n 0, 1) := dk_42 (dk_at dksX4_same_6 3 rfl rfl)
theorem dX4_same_142 : decode cX4_same 142 = .ok (.lload 5, 2) := dk_22 5 (dk_at dksX4_same_6 4 rfl rfl)
theorem dX4_same_144 : decode cX4_same 144 = .ok (.aload_n 0, 1) := dk_42 (dk_at dksX4_same_6 6 rfl rfl)
theorem dX4_same_145 : decode cX4_same 145 = .ok (.getfield 96, 3) := dk_180 0 96 (dk_at dksX4_same_6 7 rfl rfl)
theorem dX4_same_148 : decode cX4_same 148 = .ok (.lcmp, 1) := dk_148 (dk_at dksX4_same_6 10 rfl rfl)
theorem dX4_same_149 : decode cX4_same 149 = .ok (.ifCond .ne 17, 3) := dk_154 0 17 (dk_at dksX4_same_6 11 rfl rfl)
theorem dX4_same_152 : decode cX4_same 152 = .ok (.lload 7, 2) := dk_22 7 (dk_at dksX4_same_6 14 rfl rfl)
theorem dX4_same_154 : decode cX4_same 154 = .ok (.aload_n 0, 1) := dk_42 (dk_at dksX4_same_6 16 rfl rfl)
theorem dX4_same_155 : decode cX4_same 155 = .ok (.getfield 100, 3) := dk_180 0 100 (dk_at dksX4_same_6 17 rfl rfl)
theorem dX4_same_158 : decode cX4_same 158 = .ok (.lcmp, 1) := dk_148 (dk_at dksX4_same_6 20 rfl rfl)
theorem dX4_same_159 : decode cX4_same 159 = .ok (.ifCond .ne 7, 3) := dk_154 0 7 (dk_at dksX4_same_6 21 rfl rfl)
theorem dX4_same_162 : decode cX4_same 162 = .ok (.iconst 1, 1) := dk_4 (dk_at dksX4_same_7 0 rfl rfl)
theorem dX4_same_163 : decode cX4_same 163 = .ok (.goto 4, 3) := dk_167 0 4 (dk_at dksX4_same_7 1 rfl rfl)
theorem dX4_same_166 : decode cX4_same 166 = .ok (.iconst 0, 1) := dk_3 (dk_at dksX4_same_7 4 rfl rfl)
theorem dX4_same_167 : decode cX4_same 167 = .ok (.invokestatic 31, 3) := dk_184 0 31 (dk_at dksX4_same_7 5 rfl rfl)
theorem dX4_same_170 : decode cX4_same 170 = .ok (.i2l, 1) := dk_133 (dk_at dksX4_same_7 8 rfl rfl)
theorem dX4_same_171 : decode cX4_same 171 = .ok (.invokevirtual 164, 3) := dk_182 0 164 (dk_at dksX4_same_7 9 rfl rfl)
theorem dX4_same_174 : decode cX4_same 174 = .ok (.aload_n 0, 1) := dk_42 (dk_at dksX4_same_7 12 rfl rfl)
theorem dX4_same_175 : decode cX4_same 175 = .ok (.iload 4, 2) := dk_21 4 (dk_at dksX4_same_7 13 rfl rfl)
theorem dX4_same_177 : decode cX4_same 177 = .ok (.i2l, 1) := dk_133 (dk_at dksX4_same_7 15 rfl rfl)
theorem dX4_same_178 : decode cX4_same 178 = .ok (.invokevirtual 164, 3) := dk_182 0 164 (dk_at dksX4_same_7 16 rfl rfl)
theorem dX4_same_181 : decode cX4_same 181 = .ok (.iload_n 3, 1) := dk_29 (dk_at dksX4_same_7 19 rfl rfl)
theorem dX4_same_182 : decode cX4_same 182 = .ok (.invokestatic 31, 3) := dk_184 0 31 (dk_at dksX4_same_7 20 rfl rfl)
theorem dX4_same_185 : decode cX4_same 185 = .ok (.ireturn, 1) := dk_172 (dk_at dksX4_same_7 23 rfl rfl)
def dkwX4_hasCell_1 : List UInt8 := [160, 0, 5, 4, 172, 132, 3, 1, 167, 255, 227, 3, 172]
abbrev dktX4_hasCell_1 : List UInt8 := dkwX4_hasCell_1 ++ []
def dkwX4_hasCell_0 : List UInt8 := [3, 62, 29, 42, 27, 182, 0, 187, 162, 0, 26, 42, 180, 0, 69, 42, 27, 29, 182, 0, 181, 46, 28]
abbrev dktX4_hasCell_0 : List UInt8 := dkwX4_hasCell_0 ++ dktX4_hasCell_1
theorem dksX4_hasCell_0 : cX4_hasCell.data.toList.drop 0 = dktX4_hasCell_0 := by decide +kernel
theorem dksX4_hasCell_1 : cX4_hasCell.data.toList.drop 23 = dktX4_hasCell_1 := dk_seg dksX4_hasCell_0 23 rfl rfl
theorem dX4_hasCell_0 : decode cX4_hasCell 0 = .ok (.iconst 0, 1) := dk_3 (dk_at dksX4_hasCell_0 0 rfl rfl)
theorem dX4_hasCell_1 : decode cX4_hasCell 1 = .ok (.istore_n 3, 1) := dk_62 (dk_at dksX4_hasCell_0 1 rfl rfl)
theorem dX4_hasCell_2 : decode cX4_hasCell 2 = .ok (.iload_n 3, 1) := dk_29 (dk_at dksX4_hasCell_0 2 rfl rfl)
theorem dX4_hasCell_3 : decode cX4_hasCell 3 = .ok (.aload_n 0, 1) := dk_42 (dk_at dksX4_hasCell_0 3 rfl rfl)
theorem dX4_hasCell_4 : decode cX4_hasCell 4 = .ok (.iload_n 1, 1) := dk_27 (dk_at dksX4_hasCell_0 4 rfl rfl)
theorem dX4_hasCell_5 : decode cX4_hasCell 5 = .ok (.invokevirtual 187, 3) := dk_182 0 187 (dk_at dksX4_hasCell_0 5 rfl rfl)
theorem dX4_hasCell_8 : decode cX4_hasCell 8 = .ok (.if_icmp .ge 26, 3) := dk_162 0 26 (dk_at dksX4_hasCell_0 8 rfl rfl)
theorem dX4_hasCell_11 : decode cX4_hasCell 11 = .ok (.aload_n 0, 1) := dk_42 (dk_at dksX4_hasCell_0 11 rfl rfl)
theorem dX4_hasCell_12 : decode cX4_hasCell 12 = .ok (.getfield 69, 3) := dk_180 0 69 (dk_at dksX4_hasCell_0 12 rfl rfl)
theorem dX4_hasCell_15 : decode cX4_hasCell 15 = .ok (.aload_n 0, 1) := dk_42 (dk_at dksX4_hasCell_0 15 rfl rfl)
theorem dX4_hasCell_16 : decode cX4_hasCell 16 = .ok (.iload_n 1, 1) := dk_27 (dk_at dksX4_hasCell_0 16 rfl rfl)
theorem dX4_hasCell_17 : decode cX4_hasCell 17 = .ok (.iload_n 3, 1) := dk_29 (dk_at dksX4_hasCell_0 17 rfl rfl)
theorem dX4_hasCell_18 : decode cX4_hasCell 18 = .ok (.invokevirtual 181, 3) := dk_182 0 181 (dk_at dksX4_hasCell_0 18 rfl rfl)
theorem dX4_hasCell_21 : decode cX4_hasCell 21 = .ok (.iaload, 1) := dk_46 (dk_at dksX4_hasCell_0 21 rfl rfl)
theorem dX4_hasCell_22 : decode cX4_hasCell 22 = .ok (.iload_n 2, 1) := dk_28 (dk_at dksX4_hasCell_0 22 rfl rfl)
theorem dX4_hasCell_23 : decode cX4_hasCell 23 = .ok (.if_icmp .ne 5, 3) := dk_160 0 5 (dk_at dksX4_hasCell_1 0 rfl rfl)
theorem dX4_hasCell_26 : decode cX4_hasCell 26 = .ok (.iconst 1, 1) := dk_4 (dk_at dksX4_hasCell_1 3 rfl rfl)
theorem dX4_hasCell_27 : decode cX4_hasCell 27 = .ok (.ireturn, 1) := dk_172 (dk_at dksX4_hasCell_1 4 rfl rfl)
theorem dX4_hasCell_28 : decode cX4_hasCell 28 = .ok (.iinc 3 1, 3) := dk_132 3 1 (dk_at dksX4_hasCell_1 5 rfl rfl)
theorem dX4_hasCell_31 : decode cX4_hasCell 31 = .ok (.goto (-29), 3) := dk_167 255 227 (dk_at dksX4_hasCell_1 8 rfl rfl)
theorem dX4_hasCell_34 : decode cX4_hasCell 34 = .ok (.iconst 0, 1) := dk_3 (dk_at dksX4_hasCell_1 11 rfl rfl)
theorem dX4_hasCell_35 : decode cX4_hasCell 35 = .ok (.ireturn, 1) := dk_172 (dk_at dksX4_hasCell_1 12 rfl rfl)
def dkwX4_shared_8 : List UInt8 := [182, 0, 164, 42, 29, 133, 182, 0, 164, 27, 172]
abbrev dktX4_shared_8 : List UInt8 := dkwX4_shared_8 ++ []
def dkwX4_shared_7 : List UInt8 := [132, 3, 1, 132, 5, 1, 167, 255, 108, 132, 4, 1, 167, 255, 93, 42, 3, 181, 0, 11, 42, 28, 133]
abbrev dktX4_shared_7 : List UInt8 := dkwX4_shared_7 ++ dktX4_shared_8
def dkwX4_shared_6 : List UInt8 := [96, 60, 28, 21, 7, 153, 0, 12, 21, 8, 153, 0, 7, 4, 167, 0, 4, 3, 184, 0, 31, 96, 61]
abbrev dktX4_shared_6 : List UInt8 := dkwX4_shared_6 ++ dktX4_shared_7
def dkwX4_shared_5 : List UInt8 := [21, 10, 153, 0, 7, 4, 167, 0, 4, 3, 54, 8, 132, 9, 1, 167, 255, 181, 27, 21, 7, 184, 0, 31]
abbrev dktX4_shared_5 : List UInt8 := dkwX4_shared_5 ++ dktX4_shared_6
def dkwX4_shared_4 : List UInt8 := [21, 10, 153, 0, 10, 21, 9, 21, 4, 161, 0, 7, 4, 167, 0, 4, 3, 54, 7, 21, 8, 154, 0, 8]
abbrev dktX4_shared_4 : List UInt8 := dkwX4_shared_4 ++ dktX4_shared_5
def dkwX4_shared_3 : List UInt8 := [42, 21, 9, 21, 6, 182, 1, 49, 153, 0, 7, 4, 167, 0, 4, 3, 54, 10, 21, 7, 153, 0, 19]
abbrev dktX4_shared_3 : List UInt8 := dkwX4_shared_3 ++ dktX4_shared_4
def dkwX4_shared_2 : List UInt8 := [54, 6, 4, 54, 7, 3, 54, 8, 3, 54, 9, 21, 9, 7, 162, 0, 75, 21, 9, 21, 4, 159, 0, 18]
abbrev dktX4_shared_2 : List UInt8 := dkwX4_shared_2 ++ dktX4_shared_3
def dkwX4_shared_1 : List UInt8 := [21, 5, 42, 21, 4, 182, 0, 187, 162, 0, 143, 42, 180, 0, 69, 42, 21, 4, 21, 5, 182, 0, 181, 46]
abbrev dktX4_shared_1 : List UInt8 := dkwX4_shared_1 ++ dktX4_shared_2
def dkwX4_shared_0 : List UInt8 := [42, 3, 181, 0, 1, 3, 60, 3, 61, 3, 62, 3, 54, 4, 21, 4, 7, 162, 0, 163, 3, 54, 5]
abbrev dktX4_shared_0 : List UInt8 := dkwX4_shared_0 ++ dktX4_shared_1
theorem dksX4_shared_0 : cX4_shared.data.toList.drop 0 = dktX4_shared_0 := by decide +kernel
theorem dksX4_shared_1 : cX4_shared.data.toList.drop 23 = dktX4_shared_1 := dk_seg dksX4_shared_0 23 rfl rfl
theorem dksX4_shared_2 : cX4_shared.data.toList.drop 47 = dktX4_shared_2 := dk_seg dksX4_shared_1 24 rfl rfl
theorem dksX4_shared_3 : cX4_shared.data.toList.drop 71 = dktX4_shared_3 := dk_seg dksX4_shared_2 24 rfl rfl
theorem dksX4_shared_4 : cX4_shared.data.toList.drop 94 = dktX4_shared_4 := dk_seg dksX4_shared_3 23 rfl rfl
theorem dksX4_shared_5 : cX4_shared.data.toList.drop 118 = dktX4_shared_5 := dk_seg dksX4_shared_4 24 rfl rfl
theorem dksX4_shared_6 : cX4_shared.data.toList.drop 142 = dktX4_shared_6 := dk_seg dksX4_shared_5 24 rfl rfl
theorem dksX4_shared_7 : cX4_shared.data.toList.drop 165 = dktX4_shared_7 := dk_seg dksX4_shared_6 23 rfl rfl
theorem dksX4_shared_8 : cX4_shared.data.toList.drop 188 = dktX4_shared_8 := dk_seg dksX4_shared_7 23 rfl rfl
theorem dX4_shared_0 : decode cX4_shared 0 = .ok (.aload_n 0, 1) := dk_42 (dk_at dksX4_shared_0 0 rfl rfl)
theorem dX4_shared_1 : decode cX4_shared 1 = .ok (.iconst 0, 1) := dk_3 (dk_at dksX4_shared_0 1 rfl rfl)
theorem dX4_shared_2 : decode cX4_shared 2 = .ok (.putfield 1, 3) := dk_181 0 1 (dk_at dksX4_shared_0 2 rfl rfl)
theorem dX4_shared_5 : decode cX4_shared 5 = .ok (.iconst 0, 1) := dk_3 (dk_at dksX4_shared_0 5 rfl rfl)
theorem dX4_shared_6 : decode cX4_shared 6 = .ok (.istore_n 1, 1) := dk_60 (dk_at dksX4_shared_0 6 rfl rfl)
theorem dX4_shared_7 : decode cX4_shared 7 = .ok (.iconst 0, 1) := dk_3 (dk_at dksX4_shared_0 7 rfl rfl)
theorem dX4_shared_8 : decode cX4_shared 8 = .ok (.istore_n 2, 1) := dk_61 (dk_at dksX4_shared_0 8 rfl rfl)
theorem dX4_shared_9 : decode cX4_shared 9 = .ok (.iconst 0, 1) := dk_3 (dk_at dksX4_shared_0 9 rfl rfl)
theorem dX4_shared_10 : decode cX4_shared 10 = .ok (.istore_n 3, 1) := dk_62 (dk_at dksX4_shared_0 10 rfl rfl)
theorem dX4_shared_11 : decode cX4_shared 11 = .ok (.iconst 0, 1) := dk_3 (dk_at dksX4_shared_0 11 rfl rfl)
theorem dX4_shared_12 : decode cX4_shared 12 = .ok (.istore 4, 2) := dk_54 4 (dk_at dksX4_shared_0 12 rfl rfl)
theorem dX4_shared_14 : decode cX4_shared 14 = .ok (.iload 4, 2) := dk_21 4 (dk_at dksX4_shared_0 14 rfl rfl)
theorem dX4_shared_16 : decode cX4_shared 16 = .ok (.iconst 4, 1) := dk_7 (dk_at dksX4_shared_0 16 rfl rfl)
theorem dX4_shared_17 : decode cX4_shared 17 = .ok (.if_icmp .ge 163, 3) := dk_162 0 163 (dk_at dksX4_shared_0 17 rfl rfl)
theorem dX4_shared_20 : decode cX4_shared 20 = .ok (.iconst 0, 1) := dk_3 (dk_at dksX4_shared_0 20 rfl rfl)
theorem dX4_shared_21 : decode cX4_shared 21 = .ok (.istore 5, 2) := dk_54 5 (dk_at dksX4_shared_0 21 rfl rfl)
theorem dX4_shared_23 : decode cX4_shared 23 = .ok (.iload 5, 2) := dk_21 5 (dk_at dksX4_shared_1 0 rfl rfl)
theorem dX4_shared_25 : decode cX4_shared 25 = .ok (.aload_n 0, 1) := dk_42 (dk_at dksX4_shared_1 2 rfl rfl)
theorem dX4_shared_26 : decode cX4_shared 26 = .ok (.iload 4, 2) := dk_21 4 (dk_at dksX4_shared_1 3 rfl rfl)
theorem dX4_shared_28 : decode cX4_shared 28 = .ok (.invokevirtual 187, 3) := dk_182 0 187 (dk_at dksX4_shared_1 5 rfl rfl)
theorem dX4_shared_31 : decode cX4_shared 31 = .ok (.if_icmp .ge 143, 3) := dk_162 0 143 (dk_at dksX4_shared_1 8 rfl rfl)
theorem dX4_shared_34 : decode cX4_shared 34 = .ok (.aload_n 0, 1) := dk_42 (dk_at dksX4_shared_1 11 rfl rfl)
theorem dX4_shared_35 : decode cX4_shared 35 = .ok (.getfield 69, 3) := dk_180 0 69 (dk_at dksX4_shared_1 12 rfl rfl)
theorem dX4_shared_38 : decode cX4_shared 38 = .ok (.aload_n 0, 1) := dk_42 (dk_at dksX4_shared_1 15 rfl rfl)
theorem dX4_shared_39 : decode cX4_shared 39 = .ok (.iload 4, 2) := dk_21 4 (dk_at dksX4_shared_1 16 rfl rfl)
theorem dX4_shared_41 : decode cX4_shared 41 = .ok (.iload 5, 2) := dk_21 5 (dk_at dksX4_shared_1 18 rfl rfl)
theorem dX4_shared_43 : decode cX4_shared 43 = .ok (.invokevirtual 181, 3) := dk_182 0 181 (dk_at dksX4_shared_1 20 rfl rfl)
theorem dX4_shared_46 : decode cX4_shared 46 = .ok (.iaload, 1) := dk_46 (dk_at dksX4_shared_1 23 rfl rfl)
theorem dX4_shared_47 : decode cX4_shared 47 = .ok (.istore 6, 2) := dk_54 6 (dk_at dksX4_shared_2 0 rfl rfl)
theorem dX4_shared_49 : decode cX4_shared 49 = .ok (.iconst 1, 1) := dk_4 (dk_at dksX4_shared_2 2 rfl rfl)
theorem dX4_shared_50 : decode cX4_shared 50 = .ok (.istore 7, 2) := dk_54 7 (dk_at dksX4_shared_2 3 rfl rfl)
theorem dX4_shared_52 : decode cX4_shared 52 = .ok (.iconst 0, 1) := dk_3 (dk_at dksX4_shared_2 5 rfl rfl)
theorem dX4_shared_53 : decode cX4_shared 53 = .ok (.istore 8, 2) := dk_54 8 (dk_at dksX4_shared_2 6 rfl rfl)
theorem dX4_shared_55 : decode cX4_shared 55 = .ok (.iconst 0, 1) := dk_3 (dk_at dksX4_shared_2 8 rfl rfl)
theorem dX4_shared_56 : decode cX4_shared 56 = .ok (.istore 9, 2) := dk_54 9 (dk_at dksX4_shared_2 9 rfl rfl)
theorem dX4_shared_58 : decode cX4_shared 58 = .ok (.iload 9, 2) := dk_21 9 (dk_at dksX4_shared_2 11 rfl rfl)
theorem dX4_shared_60 : decode cX4_shared 60 = .ok (.iconst 4, 1) := dk_7 (dk_at dksX4_shared_2 13 rfl rfl)
theorem dX4_shared_61 : decode cX4_shared 61 = .ok (.if_icmp .ge 75, 3) := dk_162 0 75 (dk_at dksX4_shared_2 14 rfl rfl)
theorem dX4_shared_64 : decode cX4_shared 64 = .ok (.iload 9, 2) := dk_21 9 (dk_at dksX4_shared_2 17 rfl rfl)
theorem dX4_shared_66 : decode cX4_shared 66 = .ok (.iload 4, 2) := dk_21 4 (dk_at dksX4_shared_2 19 rfl rfl)
theorem dX4_shared_68 : decode cX4_shared 68 = .ok (.if_icmp .eq 18, 3) := dk_159 0 18 (dk_at dksX4_shared_2 21 rfl rfl)
theorem dX4_shared_71 : decode cX4_shared 71 = .ok (.aload_n 0, 1) := dk_42 (dk_at dksX4_shared_3 0 rfl rfl)
theorem dX4_shared_72 : decode cX4_shared 72 = .ok (.iload 9, 2) := dk_21 9 (dk_at dksX4_shared_3 1 rfl rfl)
theorem dX4_shared_74 : decode cX4_shared 74 = .ok (.iload 6, 2) := dk_21 6 (dk_at dksX4_shared_3 3 rfl rfl)
theorem dX4_shared_76 : decode cX4_shared 76 = .ok (.invokevirtual 305, 3) := dk_182 1 49 (dk_at dksX4_shared_3 5 rfl rfl)
theorem dX4_shared_79 : decode cX4_shared 79 = .ok (.ifCond .eq 7, 3) := dk_153 0 7 (dk_at dksX4_shared_3 8 rfl rfl)
theorem dX4_shared_82 : decode cX4_shared 82 = .ok (.iconst 1, 1) := dk_4 (dk_at dksX4_shared_3 11 rfl rfl)
theorem dX4_shared_83 : decode cX4_shared 83 = .ok (.goto 4, 3) := dk_167 0 4 (dk_at dksX4_shared_3 12 rfl rfl)
theorem dX4_shared_86 : decode cX4_shared 86 = .ok (.iconst 0, 1) := dk_3 (dk_at dksX4_shared_3 15 rfl rfl)
theorem dX4_shared_87 : decode cX4_shared 87 = .ok (.istore 10, 2) := dk_54 10 (dk_at dksX4_shared_3 16 rfl rfl)
theorem dX4_shared_89 : decode cX4_shared 89 = .ok (.iload 7, 2) := dk_21 7 (dk_at dksX4_shared_3 18 rfl rfl)
theorem dX4_shared_91 : decode cX4_shared 91 = .ok (.ifCond .eq 19, 3) := dk_153 0 19 (dk_at dksX4_shared_3 20 rfl rfl)
theorem dX4_shared_94 : decode cX4_shared 94 = .ok (.iload 10, 2) := dk_21 10 (dk_at dksX4_shared_4 0 rfl rfl)
theorem dX4_shared_96 : decode cX4_shared 96 = .ok (.ifCond .eq 10, 3) := dk_153 0 10 (dk_at dksX4_shared_4 2 rfl rfl)
theorem dX4_shared_99 : decode cX4_shared 99 = .ok (.iload 9, 2) := dk_21 9 (dk_at dksX4_shared_4 5 rfl rfl)
theorem dX4_shared_101 : decode cX4_shared 101 = .ok (.iload 4, 2) := dk_21 4 (dk_at dksX4_shared_4 7 rfl rfl)
theorem dX4_shared_103 : decode cX4_shared 103 = .ok (.if_icmp .lt 7, 3) := dk_161 0 7 (dk_at dksX4_shared_4 9 rfl rfl)
theorem dX4_shared_106 : decode cX4_shared 106 = .ok (.iconst 1, 1) := dk_4 (dk_at dksX4_shared_4 12 rfl rfl)
theorem dX4_shared_107 : decode cX4_shared 107 = .ok (.goto 4, 3) := dk_167 0 4 (dk_at dksX4_shared_4 13 rfl rfl)
theorem dX4_shared_110 : decode cX4_shared 110 = .ok (.iconst 0, 1) := dk_3 (dk_at dksX4_shared_4 16 rfl rfl)
theorem dX4_shared_111 : decode cX4_shared 111 = .ok (.istore 7, 2) := dk_54 7 (dk_at dksX4_shared_4 17 rfl rfl)
theorem dX4_shared_113 : decode cX4_shared 113 = .ok (.iload 8, 2) := dk_21 8 (dk_at dksX4_shared_4 19 rfl rfl)
theorem dX4_shared_115 : decode cX4_shared 115 = .ok (.ifCond .ne 8, 3) := dk_154 0 8 (dk_at dksX4_shared_4 21 rfl rfl)
theorem dX4_shared_118 : decode cX4_shared 118 = .ok (.iload 10, 2) := dk_21 10 (dk_at dksX4_shared_5 0 rfl rfl)
theorem dX4_shared_120 : decode cX4_shared 120 = .ok (.ifCond .eq 7, 3) := dk_153 0 7 (dk_at dksX4_shared_5 2 rfl rfl)
theorem dX4_shared_123 : decode cX4_shared 123 = .ok (.iconst 1, 1) := dk_4 (dk_at dksX4_shared_5 5 rfl rfl)
theorem dX4_shared_124 : decode cX4_shared 124 = .ok (.goto 4, 3) := dk_167 0 4 (dk_at dksX4_shared_5 6 rfl rfl)
theorem dX4_shared_127 : decode cX4_shared 127 = .ok (.iconst 0, 1) := dk_3 (dk_at dksX4_shared_5 9 rfl rfl)
theorem dX4_shared_128 : decode cX4_shared 128 = .ok (.istore 8, 2) := dk_54 8 (dk_at dksX4_shared_5 10 rfl rfl)
theorem dX4_shared_130 : decode cX4_shared 130 = .ok (.iinc 9 1, 3) := dk_132 9 1 (dk_at dksX4_shared_5 12 rfl rfl)
theorem dX4_shared_133 : decode cX4_shared 133 = .ok (.goto (-75), 3) := dk_167 255 181 (dk_at dksX4_shared_5 15 rfl rfl)
theorem dX4_shared_136 : decode cX4_shared 136 = .ok (.iload_n 1, 1) := dk_27 (dk_at dksX4_shared_5 18 rfl rfl)
theorem dX4_shared_137 : decode cX4_shared 137 = .ok (.iload 7, 2) := dk_21 7 (dk_at dksX4_shared_5 19 rfl rfl)
theorem dX4_shared_139 : decode cX4_shared 139 = .ok (.invokestatic 31, 3) := dk_184 0 31 (dk_at dksX4_shared_5 21 rfl rfl)
theorem dX4_shared_142 : decode cX4_shared 142 = .ok (.iadd, 1) := dk_96 (dk_at dksX4_shared_6 0 rfl rfl)
theorem dX4_shared_143 : decode cX4_shared 143 = .ok (.istore_n 1, 1) := dk_60 (dk_at dksX4_shared_6 1 rfl rfl)
theorem dX4_shared_144 : decode cX4_shared 144 = .ok (.iload_n 2, 1) := dk_28 (dk_at dksX4_shared_6 2 rfl rfl)
theorem dX4_shared_145 : decode cX4_shared 145 = .ok (.iload 7, 2) := dk_21 7 (dk_at dksX4_shared_6 3 rfl rfl)
theorem dX4_shared_147 : decode cX4_shared 147 = .ok (.ifCond .eq 12, 3) := dk_153 0 12 (dk_at dksX4_shared_6 5 rfl rfl)
theorem dX4_shared_150 : decode cX4_shared 150 = .ok (.iload 8, 2) := dk_21 8 (dk_at dksX4_shared_6 8 rfl rfl)
theorem dX4_shared_152 : decode cX4_shared 152 = .ok (.ifCond .eq 7, 3) := dk_153 0 7 (dk_at dksX4_shared_6 10 rfl rfl)
theorem dX4_shared_155 : decode cX4_shared 155 = .ok (.iconst 1, 1) := dk_4 (dk_at dksX4_shared_6 13 rfl rfl)
theorem dX4_shared_156 : decode cX4_shared 156 = .ok (.goto 4, 3) := dk_167 0 4 (dk_at dksX4_shared_6 14 rfl rfl)
theorem dX4_shared_159 : decode cX4_shared 159 = .ok (.iconst 0, 1) := dk_3 (dk_at dksX4_shared_6 17 rfl rfl)
theorem dX4_shared_160 : decode cX4_shared 160 = .ok (.invokestatic 31, 3) := dk_184 0 31 (dk_at dksX4_shared_6 18 rfl rfl)
theorem dX4_shared_163 : decode cX4_shared 163 = .ok (.iadd, 1) := dk_96 (dk_at dksX4_shared_6 21 rfl rfl)
theorem dX4_shared_164 : decode cX4_shared 164 = .ok (.istore_n 2, 1) := dk_61 (dk_at dksX4_shared_6 22 rfl rfl)
theorem dX4_shared_165 : decode cX4_shared 165 = .ok (.iinc 3 1, 3) := dk_132 3 1 (dk_at dksX4_shared_7 0 rfl rfl)
theorem dX4_shared_168 : decode cX4_shared 168 = .ok (.iinc 5 1, 3) := dk_132 5 1 (dk_at dksX4_shared_7 3 rfl rfl)
theorem dX4_shared_171 : decode cX4_shared 171 = .ok (.goto (-148), 3) := dk_167 255 108 (dk_at dksX4_shared_7 6 rfl rfl)
theorem dX4_shared_174 : decode cX4_shared 174 = .ok (.iinc 4 1, 3) := dk_132 4 1 (dk_at dksX4_shared_7 9 rfl rfl)
theorem dX4_shared_177 : decode cX4_shared 177 = .ok (.goto (-163), 3) := dk_167 255 93 (dk_at dksX4_shared_7 12 rfl rfl)
theorem dX4_shared_180 : decode cX4_shared 180 = .ok (.aload_n 0, 1) := dk_42 (dk_at dksX4_shared_7 15 rfl rfl)
theorem dX4_shared_181 : decode cX4_shared 181 = .ok (.iconst 0, 1) := dk_3 (dk_at dksX4_shared_7 16 rfl rfl)
theorem dX4_shared_182 : decode cX4_shared 182 = .ok (.putfield 11, 3) := dk_181 0 11 (dk_at dksX4_shared_7 17 rfl rfl)
theorem dX4_shared_185 : decode cX4_shared 185 = .ok (.aload_n 0, 1) := dk_42 (dk_at dksX4_shared_7 20 rfl rfl)
theorem dX4_shared_186 : decode cX4_shared 186 = .ok (.iload_n 2, 1) := dk_28 (dk_at dksX4_shared_7 21 rfl rfl)
theorem dX4_shared_187 : decode cX4_shared 187 = .ok (.i2l, 1) := dk_133 (dk_at dksX4_shared_7 22 rfl rfl)
theorem dX4_shared_188 : decode cX4_shared 188 = .ok (.invokevirtual 164, 3) := dk_182 0 164 (dk_at dksX4_shared_8 0 rfl rfl)
theorem dX4_shared_191 : decode cX4_shared 191 = .ok (.aload_n 0, 1) := dk_42 (dk_at dksX4_shared_8 3 rfl rfl)
theorem dX4_shared_192 : decode cX4_shared 192 = .ok (.iload_n 3, 1) := dk_29 (dk_at dksX4_shared_8 4 rfl rfl)
theorem dX4_shared_193 : decode cX4_shared 193 = .ok (.i2l, 1) := dk_133 (dk_at dksX4_shared_8 5 rfl rfl)
theorem dX4_shared_194 : decode cX4_shared 194 = .ok (.invokevirtual 164, 3) := dk_182 0 164 (dk_at dksX4_shared_8 6 rfl rfl)
theorem dX4_shared_197 : decode cX4_shared 197 = .ok (.iload_n 1, 1) := dk_27 (dk_at dksX4_shared_8 9 rfl rfl)
theorem dX4_shared_198 : decode cX4_shared 198 = .ok (.ireturn, 1) := dk_172 (dk_at dksX4_shared_8 10 rfl rfl)
def dkwX4_count_3 : List UInt8 := [180, 0, 184, 172, 42, 180, 0, 202, 172, 42, 180, 0, 11, 172, 42, 180, 0, 14, 172, 2, 172]
abbrev dktX4_count_3 : List UInt8 := dkwX4_count_3 ++ []
def dkwX4_count_2 : List UInt8 := [42, 27, 182, 0, 187, 172, 42, 180, 0, 93, 172, 42, 180, 0, 45, 172, 42, 180, 0, 111, 172, 42]
abbrev dktX4_count_2 : List UInt8 := dkwX4_count_2 ++ dktX4_count_3
def dkwX4_count_1 : List UInt8 := [170, 0, 0, 0, 0, 99, 0, 0, 0, 0, 0, 0, 0, 10, 0, 0, 0, 58, 0, 0, 0, 58, 0, 0, 0, 58, 0, 0, 0, 58, 0, 0, 0, 64, 0, 0, 0, 69, 0, 0, 0, 74, 0, 0, 0, 79, 0, 0, 0, 84, 0, 0, 0, 89, 0, 0, 0, 94]
abbrev dktX4_count_1 : List UInt8 := dkwX4_count_1 ++ dktX4_count_2
def dkwX4_count_0 : List UInt8 := [42, 3, 181, 0, 1, 27]
abbrev dktX4_count_0 : List UInt8 := dkwX4_count_0 ++ dktX4_count_1
theorem dksX4_count_0 : cX4_count.data.toList.drop 0 = dktX4_count_0 := by decide +kernel
theorem dksX4_count_1 : cX4_count.data.toList.drop 6 = dktX4_count_1 := dk_seg dksX4_count_0 6 rfl rfl
theorem dksX4_count_2 : cX4_count.data.toList.drop 64 = dktX4_count_2 := dk_seg dksX4_count_1 58 rfl rfl
theorem dksX4_count_3 : cX4_count.data.toList.drop 86 = dktX4_count_3 := dk_seg dksX4_count_2 22 rfl rfl
theorem dX4_count_0 : decode cX4_count 0 = .ok (.aload_n 0, 1) := dk_42 (dk_at dksX4_count_0 0 rfl rfl)
theorem dX4_count_1 : decode cX4_count 1 = .ok (.iconst 0, 1) := dk_3 (dk_at dksX4_count_0 1 rfl rfl)
theorem dX4_count_2 : decode cX4_count 2 = .ok (.putfield 1, 3) := dk_181 0 1 (dk_at dksX4_count_0 2 rfl rfl)
theorem dX4_count_5 : decode cX4_count 5 = .ok (.iload_n 1, 1) := dk_27 (dk_at dksX4_count_0 5 rfl rfl)
theorem dX4_count_6 : decode cX4_count 6 = .ok (.tableswitch 99 0 10 #[58, 58, 58, 58, 64, 69, 74, 79, 84, 89, 94], 58) := by decide +kernel
theorem dX4_count_64 : decode cX4_count 64 = .ok (.aload_n 0, 1) := dk_42 (dk_at dksX4_count_2 0 rfl rfl)
theorem dX4_count_65 : decode cX4_count 65 = .ok (.iload_n 1, 1) := dk_27 (dk_at dksX4_count_2 1 rfl rfl)
theorem dX4_count_66 : decode cX4_count 66 = .ok (.invokevirtual 187, 3) := dk_182 0 187 (dk_at dksX4_count_2 2 rfl rfl)
theorem dX4_count_69 : decode cX4_count 69 = .ok (.ireturn, 1) := dk_172 (dk_at dksX4_count_2 5 rfl rfl)
theorem dX4_count_70 : decode cX4_count 70 = .ok (.aload_n 0, 1) := dk_42 (dk_at dksX4_count_2 6 rfl rfl)
theorem dX4_count_71 : decode cX4_count 71 = .ok (.getfield 93, 3) := dk_180 0 93 (dk_at dksX4_count_2 7 rfl rfl)
theorem dX4_count_74 : decode cX4_count 74 = .ok (.ireturn, 1) := dk_172 (dk_at dksX4_count_2 10 rfl rfl)
theorem dX4_count_75 : decode cX4_count 75 = .ok (.aload_n 0, 1) := dk_42 (dk_at dksX4_count_2 11 rfl rfl)
theorem dX4_count_76 : decode cX4_count 76 = .ok (.getfield 45, 3) := dk_180 0 45 (dk_at dksX4_count_2 12 rfl rfl)
theorem dX4_count_79 : decode cX4_count 79 = .ok (.ireturn, 1) := dk_172 (dk_at dksX4_count_2 15 rfl rfl)
theorem dX4_count_80 : decode cX4_count 80 = .ok (.aload_n 0, 1) := dk_42 (dk_at dksX4_count_2 16 rfl rfl)
theorem dX4_count_81 : decode cX4_count 81 = .ok (.getfield 111, 3) := dk_180 0 111 (dk_at dksX4_count_2 17 rfl rfl)
theorem dX4_count_84 : decode cX4_count 84 = .ok (.ireturn, 1) := dk_172 (dk_at dksX4_count_2 20 rfl rfl)
theorem dX4_count_85 : decode cX4_count 85 = .ok (.aload_n 0, 1) := dk_42 (dk_at dksX4_count_2 21 rfl rfl)
theorem dX4_count_86 : decode cX4_count 86 = .ok (.getfield 184, 3) := dk_180 0 184 (dk_at dksX4_count_3 0 rfl rfl)
theorem dX4_count_89 : decode cX4_count 89 = .ok (.ireturn, 1) := dk_172 (dk_at dksX4_count_3 3 rfl rfl)
theorem dX4_count_90 : decode cX4_count 90 = .ok (.aload_n 0, 1) := dk_42 (dk_at dksX4_count_3 4 rfl rfl)
theorem dX4_count_91 : decode cX4_count 91 = .ok (.getfield 202, 3) := dk_180 0 202 (dk_at dksX4_count_3 5 rfl rfl)
theorem dX4_count_94 : decode cX4_count 94 = .ok (.ireturn, 1) := dk_172 (dk_at dksX4_count_3 8 rfl rfl)
theorem dX4_count_95 : decode cX4_count 95 = .ok (.aload_n 0, 1) := dk_42 (dk_at dksX4_count_3 9 rfl rfl)
theorem dX4_count_96 : decode cX4_count 96 = .ok (.getfield 11, 3) := dk_180 0 11 (dk_at dksX4_count_3 10 rfl rfl)
theorem dX4_count_99 : decode cX4_count 99 = .ok (.ireturn, 1) := dk_172 (dk_at dksX4_count_3 13 rfl rfl)
theorem dX4_count_100 : decode cX4_count 100 = .ok (.aload_n 0, 1) := dk_42 (dk_at dksX4_count_3 14 rfl rfl)
theorem dX4_count_101 : decode cX4_count 101 = .ok (.getfield 14, 3) := dk_180 0 14 (dk_at dksX4_count_3 15 rfl rfl)
theorem dX4_count_104 : decode cX4_count 104 = .ok (.ireturn, 1) := dk_172 (dk_at dksX4_count_3 18 rfl rfl)
theorem dX4_count_105 : decode cX4_count 105 = .ok (.iconst (-1), 1) := dk_2 (dk_at dksX4_count_3 19 rfl rfl)
theorem dX4_count_106 : decode cX4_count 106 = .ok (.ireturn, 1) := dk_172 (dk_at dksX4_count_3 20 rfl rfl)
def dkwX4_row_2 : List UInt8 := [173]
abbrev dktX4_row_2 : List UInt8 := dkwX4_row_2 ++ []
def dkwX4_row_1 : List UInt8 := [184, 0, 31, 181, 0, 1, 42, 180, 0, 1, 4, 160, 0, 7, 9, 167, 0, 9, 42, 180, 0, 7, 27, 47]
abbrev dktX4_row_1 : List UInt8 := dkwX4_row_1 ++ dktX4_row_2
def dkwX4_row_0 : List UInt8 := [42, 27, 133, 9, 42, 180, 0, 11, 4, 100, 133, 184, 0, 21, 154, 0, 7, 4, 167, 0, 4, 3]
abbrev dktX4_row_0 : List UInt8 := dkwX4_row_0 ++ dktX4_row_1
theorem dksX4_row_0 : cX4_row.data.toList.drop 0 = dktX4_row_0 := by decide +kernel
theorem dksX4_row_1 : cX4_row.data.toList.drop 22 = dktX4_row_1 := dk_seg dksX4_row_0 22 rfl rfl
theorem dksX4_row_2 : cX4_row.data.toList.drop 46 = dktX4_row_2 := dk_seg dksX4_row_1 24 rfl rfl
theorem dX4_row_0 : decode cX4_row 0 = .ok (.aload_n 0, 1) := dk_42 (dk_at dksX4_row_0 0 rfl rfl)
theorem dX4_row_1 : decode cX4_row 1 = .ok (.iload_n 1, 1) := dk_27 (dk_at dksX4_row_0 1 rfl rfl)
theorem dX4_row_2 : decode cX4_row 2 = .ok (.i2l, 1) := dk_133 (dk_at dksX4_row_0 2 rfl rfl)
theorem dX4_row_3 : decode cX4_row 3 = .ok (.lconst 0, 1) := dk_9 (dk_at dksX4_row_0 3 rfl rfl)
theorem dX4_row_4 : decode cX4_row 4 = .ok (.aload_n 0, 1) := dk_42 (dk_at dksX4_row_0 4 rfl rfl)
theorem dX4_row_5 : decode cX4_row 5 = .ok (.getfield 11, 3) := dk_180 0 11 (dk_at dksX4_row_0 5 rfl rfl)
theorem dX4_row_8 : decode cX4_row 8 = .ok (.iconst 1, 1) := dk_4 (dk_at dksX4_row_0 8 rfl rfl)
theorem dX4_row_9 : decode cX4_row 9 = .ok (.isub, 1) := dk_100 (dk_at dksX4_row_0 9 rfl rfl)
theorem dX4_row_10 : decode cX4_row 10 = .ok (.i2l, 1) := dk_133 (dk_at dksX4_row_0 10 rfl rfl)
theorem dX4_row_11 : decode cX4_row 11 = .ok (.invokestatic 21, 3) := dk_184 0 21 (dk_at dksX4_row_0 11 rfl rfl)
theorem dX4_row_14 : decode cX4_row 14 = .ok (.ifCond .ne 7, 3) := dk_154 0 7 (dk_at dksX4_row_0 14 rfl rfl)
theorem dX4_row_17 : decode cX4_row 17 = .ok (.iconst 1, 1) := dk_4 (dk_at dksX4_row_0 17 rfl rfl)
theorem dX4_row_18 : decode cX4_row 18 = .ok (.goto 4, 3) := dk_167 0 4 (dk_at dksX4_row_0 18 rfl rfl)
theorem dX4_row_21 : decode cX4_row 21 = .ok (.iconst 0, 1) := dk_3 (dk_at dksX4_row_0 21 rfl rfl)
theorem dX4_row_22 : decode cX4_row 22 = .ok (.invokestatic 31, 3) := dk_184 0 31 (dk_at dksX4_row_1 0 rfl rfl)
theorem dX4_row_25 : decode cX4_row 25 = .ok (.putfield 1, 3) := dk_181 0 1 (dk_at dksX4_row_1 3 rfl rfl)
theorem dX4_row_28 : decode cX4_row 28 = .ok (.aload_n 0, 1) := dk_42 (dk_at dksX4_row_1 6 rfl rfl)
theorem dX4_row_29 : decode cX4_row 29 = .ok (.getfield 1, 3) := dk_180 0 1 (dk_at dksX4_row_1 7 rfl rfl)
theorem dX4_row_32 : decode cX4_row 32 = .ok (.iconst 1, 1) := dk_4 (dk_at dksX4_row_1 10 rfl rfl)
theorem dX4_row_33 : decode cX4_row 33 = .ok (.if_icmp .ne 7, 3) := dk_160 0 7 (dk_at dksX4_row_1 11 rfl rfl)
theorem dX4_row_36 : decode cX4_row 36 = .ok (.lconst 0, 1) := dk_9 (dk_at dksX4_row_1 14 rfl rfl)
theorem dX4_row_37 : decode cX4_row 37 = .ok (.goto 9, 3) := dk_167 0 9 (dk_at dksX4_row_1 15 rfl rfl)
theorem dX4_row_40 : decode cX4_row 40 = .ok (.aload_n 0, 1) := dk_42 (dk_at dksX4_row_1 18 rfl rfl)
theorem dX4_row_41 : decode cX4_row 41 = .ok (.getfield 7, 3) := dk_180 0 7 (dk_at dksX4_row_1 19 rfl rfl)
theorem dX4_row_44 : decode cX4_row 44 = .ok (.iload_n 1, 1) := dk_27 (dk_at dksX4_row_1 22 rfl rfl)
theorem dX4_row_45 : decode cX4_row 45 = .ok (.laload, 1) := dk_47 (dk_at dksX4_row_1 23 rfl rfl)
theorem dX4_row_46 : decode cX4_row 46 = .ok (.lreturn, 1) := dk_173 (dk_at dksX4_row_2 0 rfl rfl)
