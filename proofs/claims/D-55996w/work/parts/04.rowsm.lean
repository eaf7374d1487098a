set_option maxRecDepth 100000
def dkwX3_init_3 : List UInt8 := [177]
abbrev dktX3_init_3 : List UInt8 := dkwX3_init_3 ++ []
def dkwX3_init_2 : List UInt8 := [181, 0, 22, 42, 2, 181, 0, 25, 42, 16, 60, 188, 5, 181, 0, 29, 42, 16, 124, 188, 10, 181, 0, 33]
abbrev dktX3_init_2 : List UInt8 := dkwX3_init_2 ++ dktX3_init_3
def dkwX3_init_1 : List UInt8 := [17, 0, 138, 188, 10, 181, 0, 16, 42, 17, 0, 138, 188, 10, 181, 0, 19, 42, 16, 60, 188, 10]
abbrev dktX3_init_1 : List UInt8 := dkwX3_init_1 ++ dktX3_init_2
def dkwX3_init_0 : List UInt8 := [42, 183, 0, 1, 42, 17, 0, 138, 188, 10, 181, 0, 7, 42, 17, 4, 80, 188, 10, 181, 0, 13, 42]
abbrev dktX3_init_0 : List UInt8 := dkwX3_init_0 ++ dktX3_init_1
theorem dksX3_init_0 : cX3_init.data.toList.drop 0 = dktX3_init_0 := by decide +kernel
theorem dksX3_init_1 : cX3_init.data.toList.drop 23 = dktX3_init_1 := dk_seg dksX3_init_0 23 rfl rfl
theorem dksX3_init_2 : cX3_init.data.toList.drop 45 = dktX3_init_2 := dk_seg dksX3_init_1 22 rfl rfl
theorem dksX3_init_3 : cX3_init.data.toList.drop 69 = dktX3_init_3 := dk_seg dksX3_init_2 24 rfl rfl
theorem dX3_init_0 : decode cX3_init 0 = .ok (.aload_n 0, 1) := dk_42 (dk_at dksX3_init_0 0 rfl rfl)
theorem dX3_init_1 : decode cX3_init 1 = .ok (.invokespecial 1, 3) := dk_183 0 1 (dk_at dksX3_init_0 1 rfl rfl)
theorem dX3_init_4 : decode cX3_init 4 = .ok (.aload_n 0, 1) := dk_42 (dk_at dksX3_init_0 4 rfl rfl)
theorem dX3_init_5 : decode cX3_init 5 = .ok (.sipush 138, 3) := dk_17 0 138 (dk_at dksX3_init_0 5 rfl rfl)
theorem dX3_init_8 : decode cX3_init 8 = .ok (.newarray .int, 2) := dk_188_10 (dk_at dksX3_init_0 8 rfl rfl)
theorem dX3_init_10 : decode cX3_init 10 = .ok (.putfield 7, 3) := dk_181 0 7 (dk_at dksX3_init_0 10 rfl rfl)
theorem dX3_init_13 : decode cX3_init 13 = .ok (.aload_n 0, 1) := dk_42 (dk_at dksX3_init_0 13 rfl rfl)
theorem dX3_init_14 : decode cX3_init 14 = .ok (.sipush 1104, 3) := dk_17 4 80 (dk_at dksX3_init_0 14 rfl rfl)
theorem dX3_init_17 : decode cX3_init 17 = .ok (.newarray .int, 2) := dk_188_10 (dk_at dksX3_init_0 17 rfl rfl)
theorem dX3_init_19 : decode cX3_init 19 = .ok (.putfield 13, 3) := dk_181 0 13 (dk_at dksX3_init_0 19 rfl rfl)
theorem dX3_init_22 : decode cX3_init 22 = .ok (.aload_n 0, 1) := dk_42 (dk_at dksX3_init_0 22 rfl rfl)
theorem dX3_init_23 : decode cX3_init 23 = .ok (.sipush 138, 3) := dk_17 0 138 (dk_at dksX3_init_1 0 rfl rfl)
theorem dX3_init_26 : decode cX3_init 26 = .ok (.newarray .int, 2) := dk_188_10 (dk_at dksX3_init_1 3 rfl rfl)
theorem dX3_init_28 : decode cX3_init 28 = .ok (.putfield 16, 3) := dk_181 0 16 (dk_at dksX3_init_1 5 rfl rfl)
theorem dX3_init_31 : decode cX3_init 31 = .ok (.aload_n 0, 1) := dk_42 (dk_at dksX3_init_1 8 rfl rfl)
theorem dX3_init_32 : decode cX3_init 32 = .ok (.sipush 138, 3) := dk_17 0 138 (dk_at dksX3_init_1 9 rfl rfl)
theorem dX3_init_35 : decode cX3_init 35 = .ok (.newarray .int, 2) := dk_188_10 (dk_at dksX3_init_1 12 rfl rfl)
theorem dX3_init_37 : decode cX3_init 37 = .ok (.putfield 19, 3) := dk_181 0 19 (dk_at dksX3_init_1 14 rfl rfl)
theorem dX3_init_40 : decode cX3_init 40 = .ok (.aload_n 0, 1) := dk_42 (dk_at dksX3_init_1 17 rfl rfl)
theorem dX3_init_41 : decode cX3_init 41 = .ok (.bipush 60, 2) := dk_16 60 (dk_at dksX3_init_1 18 rfl rfl)
theorem dX3_init_43 : decode cX3_init 43 = .ok (.newarray .int, 2) := dk_188_10 (dk_at dksX3_init_1 20 rfl rfl)
theorem dX3_init_45 : decode cX3_init 45 = .ok (.putfield 22, 3) := dk_181 0 22 (dk_at dksX3_init_2 0 rfl rfl)
theorem dX3_init_48 : decode cX3_init 48 = .ok (.aload_n 0, 1) := dk_42 (dk_at dksX3_init_2 3 rfl rfl)
theorem dX3_init_49 : decode cX3_init 49 = .ok (.iconst (-1), 1) := dk_2 (dk_at dksX3_init_2 4 rfl rfl)
theorem dX3_init_50 : decode cX3_init 50 = .ok (.putfield 25, 3) := dk_181 0 25 (dk_at dksX3_init_2 5 rfl rfl)
theorem dX3_init_53 : decode cX3_init 53 = .ok (.aload_n 0, 1) := dk_42 (dk_at dksX3_init_2 8 rfl rfl)
theorem dX3_init_54 : decode cX3_init 54 = .ok (.bipush 60, 2) := dk_16 60 (dk_at dksX3_init_2 9 rfl rfl)
theorem dX3_init_56 : decode cX3_init 56 = .ok (.newarray .char, 2) := dk_188_5 (dk_at dksX3_init_2 11 rfl rfl)
theorem dX3_init_58 : decode cX3_init 58 = .ok (.putfield 29, 3) := dk_181 0 29 (dk_at dksX3_init_2 13 rfl rfl)
theorem dX3_init_61 : decode cX3_init 61 = .ok (.aload_n 0, 1) := dk_42 (dk_at dksX3_init_2 16 rfl rfl)
theorem dX3_init_62 : decode cX3_init 62 = .ok (.bipush 124, 2) := dk_16 124 (dk_at dksX3_init_2 17 rfl rfl)
theorem dX3_init_64 : decode cX3_init 64 = .ok (.newarray .int, 2) := dk_188_10 (dk_at dksX3_init_2 19 rfl rfl)
theorem dX3_init_66 : decode cX3_init 66 = .ok (.putfield 33, 3) := dk_181 0 33 (dk_at dksX3_init_2 21 rfl rfl)
theorem dX3_init_69 : decode cX3_init 69 = .ok (.return_, 1) := dk_177 (dk_at dksX3_init_3 0 rfl rfl)
theorem dX3_thrown_0 : decode cX3_thrown 0 = .ok (.aload_n 0, 1) := by decide +kernel
theorem dX3_thrown_1 : decode cX3_thrown 1 = .ok (.getfield 36, 3) := by decide +kernel
theorem dX3_thrown_4 : decode cX3_thrown 4 = .ok (.ireturn, 1) := by decide +kernel
def dkwX3_addFounder_1 : List UInt8 := [180, 0, 7, 182, 0, 74, 42, 2, 182, 0, 78, 172]
abbrev dktX3_addFounder_1 : List UInt8 := dkwX3_addFounder_1 ++ []
def dkwX3_addFounder_0 : List UInt8 := [42, 180, 0, 7, 3, 46, 16, 16, 160, 0, 12, 42, 4, 4, 16, 16, 182, 0, 70, 172, 42, 42]
abbrev dktX3_addFounder_0 : List UInt8 := dkwX3_addFounder_0 ++ dktX3_addFounder_1
theorem dksX3_addFounder_0 : cX3_addFounder.data.toList.drop 0 = dktX3_addFounder_0 := by decide +kernel
theorem dksX3_addFounder_1 : cX3_addFounder.data.toList.drop 22 = dktX3_addFounder_1 := dk_seg dksX3_addFounder_0 22 rfl rfl
theorem dX3_addFounder_0 : decode cX3_addFounder 0 = .ok (.aload_n 0, 1) := dk_42 (dk_at dksX3_addFounder_0 0 rfl rfl)
theorem dX3_addFounder_1 : decode cX3_addFounder 1 = .ok (.getfield 7, 3) := dk_180 0 7 (dk_at dksX3_addFounder_0 1 rfl rfl)
theorem dX3_addFounder_4 : decode cX3_addFounder 4 = .ok (.iconst 0, 1) := dk_3 (dk_at dksX3_addFounder_0 4 rfl rfl)
theorem dX3_addFounder_5 : decode cX3_addFounder 5 = .ok (.iaload, 1) := dk_46 (dk_at dksX3_addFounder_0 5 rfl rfl)
theorem dX3_addFounder_6 : decode cX3_addFounder 6 = .ok (.bipush 16, 2) := dk_16 16 (dk_at dksX3_addFounder_0 6 rfl rfl)
theorem dX3_addFounder_8 : decode cX3_addFounder 8 = .ok (.if_icmp .ne 12, 3) := dk_160 0 12 (dk_at dksX3_addFounder_0 8 rfl rfl)
theorem dX3_addFounder_11 : decode cX3_addFounder 11 = .ok (.aload_n 0, 1) := dk_42 (dk_at dksX3_addFounder_0 11 rfl rfl)
theorem dX3_addFounder_12 : decode cX3_addFounder 12 = .ok (.iconst 1, 1) := dk_4 (dk_at dksX3_addFounder_0 12 rfl rfl)
theorem dX3_addFounder_13 : decode cX3_addFounder 13 = .ok (.iconst 1, 1) := dk_4 (dk_at dksX3_addFounder_0 13 rfl rfl)
theorem dX3_addFounder_14 : decode cX3_addFounder 14 = .ok (.bipush 16, 2) := dk_16 16 (dk_at dksX3_addFounder_0 14 rfl rfl)
theorem dX3_addFounder_16 : decode cX3_addFounder 16 = .ok (.invokevirtual 70, 3) := dk_182 0 70 (dk_at dksX3_addFounder_0 16 rfl rfl)
theorem dX3_addFounder_19 : decode cX3_addFounder 19 = .ok (.ireturn, 1) := dk_172 (dk_at dksX3_addFounder_0 19 rfl rfl)
theorem dX3_addFounder_20 : decode cX3_addFounder 20 = .ok (.aload_n 0, 1) := dk_42 (dk_at dksX3_addFounder_0 20 rfl rfl)
theorem dX3_addFounder_21 : decode cX3_addFounder 21 = .ok (.aload_n 0, 1) := dk_42 (dk_at dksX3_addFounder_0 21 rfl rfl)
theorem dX3_addFounder_22 : decode cX3_addFounder 22 = .ok (.getfield 7, 3) := dk_180 0 7 (dk_at dksX3_addFounder_1 0 rfl rfl)
theorem dX3_addFounder_25 : decode cX3_addFounder 25 = .ok (.invokevirtual 74, 3) := dk_182 0 74 (dk_at dksX3_addFounder_1 3 rfl rfl)
theorem dX3_addFounder_28 : decode cX3_addFounder 28 = .ok (.aload_n 0, 1) := dk_42 (dk_at dksX3_addFounder_1 6 rfl rfl)
theorem dX3_addFounder_29 : decode cX3_addFounder 29 = .ok (.iconst (-1), 1) := dk_2 (dk_at dksX3_addFounder_1 7 rfl rfl)
theorem dX3_addFounder_30 : decode cX3_addFounder 30 = .ok (.invokevirtual 78, 3) := dk_182 0 78 (dk_at dksX3_addFounder_1 8 rfl rfl)
theorem dX3_addFounder_33 : decode cX3_addFounder 33 = .ok (.ireturn, 1) := dk_172 (dk_at dksX3_addFounder_1 11 rfl rfl)
def dkwX3_rejects_1 : List UInt8 := [181, 0, 49, 3, 172]
abbrev dktX3_rejects_1 : List UInt8 := dkwX3_rejects_1 ++ []
def dkwX3_rejects_0 : List UInt8 := [42, 27, 181, 0, 36, 42, 4, 181, 0, 39, 42, 28, 181, 0, 43, 42, 29, 181, 0, 46, 42, 3]
abbrev dktX3_rejects_0 : List UInt8 := dkwX3_rejects_0 ++ dktX3_rejects_1
theorem dksX3_rejects_0 : cX3_rejects.data.toList.drop 0 = dktX3_rejects_0 := by decide +kernel
theorem dksX3_rejects_1 : cX3_rejects.data.toList.drop 22 = dktX3_rejects_1 := dk_seg dksX3_rejects_0 22 rfl rfl
theorem dX3_rejects_0 : decode cX3_rejects 0 = .ok (.aload_n 0, 1) := dk_42 (dk_at dksX3_rejects_0 0 rfl rfl)
theorem dX3_rejects_1 : decode cX3_rejects 1 = .ok (.iload_n 1, 1) := dk_27 (dk_at dksX3_rejects_0 1 rfl rfl)
theorem dX3_rejects_2 : decode cX3_rejects 2 = .ok (.putfield 36, 3) := dk_181 0 36 (dk_at dksX3_rejects_0 2 rfl rfl)
theorem dX3_rejects_5 : decode cX3_rejects 5 = .ok (.aload_n 0, 1) := dk_42 (dk_at dksX3_rejects_0 5 rfl rfl)
theorem dX3_rejects_6 : decode cX3_rejects 6 = .ok (.iconst 1, 1) := dk_4 (dk_at dksX3_rejects_0 6 rfl rfl)
theorem dX3_rejects_7 : decode cX3_rejects 7 = .ok (.putfield 39, 3) := dk_181 0 39 (dk_at dksX3_rejects_0 7 rfl rfl)
theorem dX3_rejects_10 : decode cX3_rejects 10 = .ok (.aload_n 0, 1) := dk_42 (dk_at dksX3_rejects_0 10 rfl rfl)
theorem dX3_rejects_11 : decode cX3_rejects 11 = .ok (.iload_n 2, 1) := dk_28 (dk_at dksX3_rejects_0 11 rfl rfl)
theorem dX3_rejects_12 : decode cX3_rejects 12 = .ok (.putfield 43, 3) := dk_181 0 43 (dk_at dksX3_rejects_0 12 rfl rfl)
theorem dX3_rejects_15 : decode cX3_rejects 15 = .ok (.aload_n 0, 1) := dk_42 (dk_at dksX3_rejects_0 15 rfl rfl)
theorem dX3_rejects_16 : decode cX3_rejects 16 = .ok (.iload_n 3, 1) := dk_29 (dk_at dksX3_rejects_0 16 rfl rfl)
theorem dX3_rejects_17 : decode cX3_rejects 17 = .ok (.putfield 46, 3) := dk_181 0 46 (dk_at dksX3_rejects_0 17 rfl rfl)
theorem dX3_rejects_20 : decode cX3_rejects 20 = .ok (.aload_n 0, 1) := dk_42 (dk_at dksX3_rejects_0 20 rfl rfl)
theorem dX3_rejects_21 : decode cX3_rejects 21 = .ok (.iconst 0, 1) := dk_3 (dk_at dksX3_rejects_0 21 rfl rfl)
theorem dX3_rejects_22 : decode cX3_rejects 22 = .ok (.putfield 49, 3) := dk_181 0 49 (dk_at dksX3_rejects_1 0 rfl rfl)
theorem dX3_rejects_25 : decode cX3_rejects 25 = .ok (.iconst 0, 1) := dk_3 (dk_at dksX3_rejects_1 3 rfl rfl)
theorem dX3_rejects_26 : decode cX3_rejects 26 = .ok (.ireturn, 1) := dk_172 (dk_at dksX3_rejects_1 4 rfl rfl)
def dkwX3_keeps_3 : List UInt8 := [17, 0, 138, 42, 180, 0, 55, 104, 184, 0, 58, 42, 89, 180, 0, 55, 4, 96, 181, 0, 55, 177]
abbrev dktX3_keeps_3 : List UInt8 := dkwX3_keeps_3 ++ []
def dkwX3_keeps_2 : List UInt8 := [132, 2, 1, 167, 255, 230, 42, 89, 180, 0, 55, 4, 100, 181, 0, 55, 43, 3, 42, 180, 0, 13]
abbrev dktX3_keeps_2 : List UInt8 := dkwX3_keeps_2 ++ dktX3_keeps_3
def dkwX3_keeps_1 : List UInt8 := [28, 17, 3, 198, 162, 0, 25, 42, 180, 0, 13, 28, 42, 180, 0, 13, 28, 17, 0, 138, 96, 46, 79]
abbrev dktX3_keeps_1 : List UInt8 := dkwX3_keeps_1 ++ dktX3_keeps_2
def dkwX3_keeps_0 : List UInt8 := [42, 3, 181, 0, 36, 42, 180, 0, 52, 153, 0, 4, 177, 42, 180, 0, 55, 16, 8, 160, 0, 44, 3, 61]
abbrev dktX3_keeps_0 : List UInt8 := dkwX3_keeps_0 ++ dktX3_keeps_1
theorem dksX3_keeps_0 : cX3_keeps.data.toList.drop 0 = dktX3_keeps_0 := by decide +kernel
theorem dksX3_keeps_1 : cX3_keeps.data.toList.drop 24 = dktX3_keeps_1 := dk_seg dksX3_keeps_0 24 rfl rfl
theorem dksX3_keeps_2 : cX3_keeps.data.toList.drop 47 = dktX3_keeps_2 := dk_seg dksX3_keeps_1 23 rfl rfl
theorem dksX3_keeps_3 : cX3_keeps.data.toList.drop 69 = dktX3_keeps_3 := dk_seg dksX3_keeps_2 22 rfl rfl
theorem dX3_keeps_0 : decode cX3_keeps 0 = .ok (.aload_n 0, 1) := dk_42 (dk_at dksX3_keeps_0 0 rfl rfl)
theorem dX3_keeps_1 : decode cX3_keeps 1 = .ok (.iconst 0, 1) := dk_3 (dk_at dksX3_keeps_0 1 rfl rfl)
theorem dX3_keeps_2 : decode cX3_keeps 2 = .ok (.putfield 36, 3) := dk_181 0 36 (dk_at dksX3_keeps_0 2 rfl rfl)
theorem dX3_keeps_5 : decode cX3_keeps 5 = .ok (.aload_n 0, 1) := dk_42 (dk_at dksX3_keeps_0 5 rfl rfl)
theorem dX3_keeps_6 : decode cX3_keeps 6 = .ok (.getfield 52, 3) := dk_180 0 52 (dk_at dksX3_keeps_0 6 rfl rfl)
theorem dX3_keeps_9 : decode cX3_keeps 9 = .ok (.ifCond .eq 4, 3) := dk_153 0 4 (dk_at dksX3_keeps_0 9 rfl rfl)
theorem dX3_keeps_12 : decode cX3_keeps 12 = .ok (.return_, 1) := dk_177 (dk_at dksX3_keeps_0 12 rfl rfl)
theorem dX3_keeps_13 : decode cX3_keeps 13 = .ok (.aload_n 0, 1) := dk_42 (dk_at dksX3_keeps_0 13 rfl rfl)
theorem dX3_keeps_14 : decode cX3_keeps 14 = .ok (.getfield 55, 3) := dk_180 0 55 (dk_at dksX3_keeps_0 14 rfl rfl)
theorem dX3_keeps_17 : decode cX3_keeps 17 = .ok (.bipush 8, 2) := dk_16 8 (dk_at dksX3_keeps_0 17 rfl rfl)
theorem dX3_keeps_19 : decode cX3_keeps 19 = .ok (.if_icmp .ne 44, 3) := dk_160 0 44 (dk_at dksX3_keeps_0 19 rfl rfl)
theorem dX3_keeps_22 : decode cX3_keeps 22 = .ok (.iconst 0, 1) := dk_3 (dk_at dksX3_keeps_0 22 rfl rfl)
theorem dX3_keeps_23 : decode cX3_keeps 23 = .ok (.istore_n 2, 1) := dk_61 (dk_at dksX3_keeps_0 23 rfl rfl)
theorem dX3_keeps_24 : decode cX3_keeps 24 = .ok (.iload_n 2, 1) := dk_28 (dk_at dksX3_keeps_1 0 rfl rfl)
theorem dX3_keeps_25 : decode cX3_keeps 25 = .ok (.sipush 966, 3) := dk_17 3 198 (dk_at dksX3_keeps_1 1 rfl rfl)
theorem dX3_keeps_28 : decode cX3_keeps 28 = .ok (.if_icmp .ge 25, 3) := dk_162 0 25 (dk_at dksX3_keeps_1 4 rfl rfl)
theorem dX3_keeps_31 : decode cX3_keeps 31 = .ok (.aload_n 0, 1) := dk_42 (dk_at dksX3_keeps_1 7 rfl rfl)
theorem dX3_keeps_32 : decode cX3_keeps 32 = .ok (.getfield 13, 3) := dk_180 0 13 (dk_at dksX3_keeps_1 8 rfl rfl)
theorem dX3_keeps_35 : decode cX3_keeps 35 = .ok (.iload_n 2, 1) := dk_28 (dk_at dksX3_keeps_1 11 rfl rfl)
theorem dX3_keeps_36 : decode cX3_keeps 36 = .ok (.aload_n 0, 1) := dk_42 (dk_at dksX3_keeps_1 12 rfl rfl)
theorem dX3_keeps_37 : decode cX3_keeps 37 = .ok (.getfield 13, 3) := dk_180 0 13 (dk_at dksX3_keeps_1 13 rfl rfl)
theorem dX3_keeps_40 : decode cX3_keeps 40 = .ok (.iload_n 2, 1) := dk_28 (dk_at dksX3_keeps_1 16 rfl rfl)
theorem dX3_keeps_41 : decode cX3_keeps 41 = .ok (.sipush 138, 3) := dk_17 0 138 (dk_at dksX3_keeps_1 17 rfl rfl)
theorem dX3_keeps_44 : decode cX3_keeps 44 = .ok (.iadd, 1) := dk_96 (dk_at dksX3_keeps_1 20 rfl rfl)
theorem dX3_keeps_45 : decode cX3_keeps 45 = .ok (.iaload, 1) := dk_46 (dk_at dksX3_keeps_1 21 rfl rfl)
theorem dX3_keeps_46 : decode cX3_keeps 46 = .ok (.iastore, 1) := dk_79 (dk_at dksX3_keeps_1 22 rfl rfl)
theorem dX3_keeps_47 : decode cX3_keeps 47 = .ok (.iinc 2 1, 3) := dk_132 2 1 (dk_at dksX3_keeps_2 0 rfl rfl)
theorem dX3_keeps_50 : decode cX3_keeps 50 = .ok (.goto (-26), 3) := dk_167 255 230 (dk_at dksX3_keeps_2 3 rfl rfl)
theorem dX3_keeps_53 : decode cX3_keeps 53 = .ok (.aload_n 0, 1) := dk_42 (dk_at dksX3_keeps_2 6 rfl rfl)
theorem dX3_keeps_54 : decode cX3_keeps 54 = .ok (.dup, 1) := dk_89 (dk_at dksX3_keeps_2 7 rfl rfl)
theorem dX3_keeps_55 : decode cX3_keeps 55 = .ok (.getfield 55, 3) := dk_180 0 55 (dk_at dksX3_keeps_2 8 rfl rfl)
theorem dX3_keeps_58 : decode cX3_keeps 58 = .ok (.iconst 1, 1) := dk_4 (dk_at dksX3_keeps_2 11 rfl rfl)
theorem dX3_keeps_59 : decode cX3_keeps 59 = .ok (.isub, 1) := dk_100 (dk_at dksX3_keeps_2 12 rfl rfl)
theorem dX3_keeps_60 : decode cX3_keeps 60 = .ok (.putfield 55, 3) := dk_181 0 55 (dk_at dksX3_keeps_2 13 rfl rfl)
theorem dX3_keeps_63 : decode cX3_keeps 63 = .ok (.aload_n 1, 1) := dk_43 (dk_at dksX3_keeps_2 16 rfl rfl)
theorem dX3_keeps_64 : decode cX3_keeps 64 = .ok (.iconst 0, 1) := dk_3 (dk_at dksX3_keeps_2 17 rfl rfl)
theorem dX3_keeps_65 : decode cX3_keeps 65 = .ok (.aload_n 0, 1) := dk_42 (dk_at dksX3_keeps_2 18 rfl rfl)
theorem dX3_keeps_66 : decode cX3_keeps 66 = .ok (.getfield 13, 3) := dk_180 0 13 (dk_at dksX3_keeps_2 19 rfl rfl)
theorem dX3_keeps_69 : decode cX3_keeps 69 = .ok (.sipush 138, 3) := dk_17 0 138 (dk_at dksX3_keeps_3 0 rfl rfl)
theorem dX3_keeps_72 : decode cX3_keeps 72 = .ok (.aload_n 0, 1) := dk_42 (dk_at dksX3_keeps_3 3 rfl rfl)
theorem dX3_keeps_73 : decode cX3_keeps 73 = .ok (.getfield 55, 3) := dk_180 0 55 (dk_at dksX3_keeps_3 4 rfl rfl)
theorem dX3_keeps_76 : decode cX3_keeps 76 = .ok (.imul, 1) := dk_104 (dk_at dksX3_keeps_3 7 rfl rfl)
theorem dX3_keeps_77 : decode cX3_keeps 77 = .ok (.invokestatic 58, 3) := dk_184 0 58 (dk_at dksX3_keeps_3 8 rfl rfl)
theorem dX3_keeps_80 : decode cX3_keeps 80 = .ok (.aload_n 0, 1) := dk_42 (dk_at dksX3_keeps_3 11 rfl rfl)
theorem dX3_keeps_81 : decode cX3_keeps 81 = .ok (.dup, 1) := dk_89 (dk_at dksX3_keeps_3 12 rfl rfl)
theorem dX3_keeps_82 : decode cX3_keeps 82 = .ok (.getfield 55, 3) := dk_180 0 55 (dk_at dksX3_keeps_3 13 rfl rfl)
theorem dX3_keeps_85 : decode cX3_keeps 85 = .ok (.iconst 1, 1) := dk_4 (dk_at dksX3_keeps_3 16 rfl rfl)
theorem dX3_keeps_86 : decode cX3_keeps 86 = .ok (.iadd, 1) := dk_96 (dk_at dksX3_keeps_3 17 rfl rfl)
theorem dX3_keeps_87 : decode cX3_keeps 87 = .ok (.putfield 55, 3) := dk_181 0 55 (dk_at dksX3_keeps_3 18 rfl rfl)
theorem dX3_keeps_90 : decode cX3_keeps 90 = .ok (.return_, 1) := dk_177 (dk_at dksX3_keeps_3 21 rfl rfl)
def dkwX3_copies_1 : List UInt8 := [132, 4, 1, 167, 255, 233, 177]
abbrev dktX3_copies_1 : List UInt8 := dkwX3_copies_1 ++ []
def dkwX3_copies_0 : List UInt8 := [3, 54, 4, 21, 4, 17, 0, 138, 162, 0, 21, 44, 29, 21, 4, 96, 42, 27, 21, 4, 96, 46, 79]
abbrev dktX3_copies_0 : List UInt8 := dkwX3_copies_0 ++ dktX3_copies_1
theorem dksX3_copies_0 : cX3_copies.data.toList.drop 0 = dktX3_copies_0 := by decide +kernel
theorem dksX3_copies_1 : cX3_copies.data.toList.drop 23 = dktX3_copies_1 := dk_seg dksX3_copies_0 23 rfl rfl
theorem dX3_copies_0 : decode cX3_copies 0 = .ok (.iconst 0, 1) := dk_3 (dk_at dksX3_copies_0 0 rfl rfl)
theorem dX3_copies_1 : decode cX3_copies 1 = .ok (.istore 4, 2) := dk_54 4 (dk_at dksX3_copies_0 1 rfl rfl)
theorem dX3_copies_3 : decode cX3_copies 3 = .ok (.iload 4, 2) := dk_21 4 (dk_at dksX3_copies_0 3 rfl rfl)
theorem dX3_copies_5 : decode cX3_copies 5 = .ok (.sipush 138, 3) := dk_17 0 138 (dk_at dksX3_copies_0 5 rfl rfl)
theorem dX3_copies_8 : decode cX3_copies 8 = .ok (.if_icmp .ge 21, 3) := dk_162 0 21 (dk_at dksX3_copies_0 8 rfl rfl)
theorem dX3_copies_11 : decode cX3_copies 11 = .ok (.aload_n 2, 1) := dk_44 (dk_at dksX3_copies_0 11 rfl rfl)
theorem dX3_copies_12 : decode cX3_copies 12 = .ok (.iload_n 3, 1) := dk_29 (dk_at dksX3_copies_0 12 rfl rfl)
theorem dX3_copies_13 : decode cX3_copies 13 = .ok (.iload 4, 2) := dk_21 4 (dk_at dksX3_copies_0 13 rfl rfl)
theorem dX3_copies_15 : decode cX3_copies 15 = .ok (.iadd, 1) := dk_96 (dk_at dksX3_copies_0 15 rfl rfl)
theorem dX3_copies_16 : decode cX3_copies 16 = .ok (.aload_n 0, 1) := dk_42 (dk_at dksX3_copies_0 16 rfl rfl)
theorem dX3_copies_17 : decode cX3_copies 17 = .ok (.iload_n 1, 1) := dk_27 (dk_at dksX3_copies_0 17 rfl rfl)
theorem dX3_copies_18 : decode cX3_copies 18 = .ok (.iload 4, 2) := dk_21 4 (dk_at dksX3_copies_0 18 rfl rfl)
theorem dX3_copies_20 : decode cX3_copies 20 = .ok (.iadd, 1) := dk_96 (dk_at dksX3_copies_0 20 rfl rfl)
theorem dX3_copies_21 : decode cX3_copies 21 = .ok (.iaload, 1) := dk_46 (dk_at dksX3_copies_0 21 rfl rfl)
theorem dX3_copies_22 : decode cX3_copies 22 = .ok (.iastore, 1) := dk_79 (dk_at dksX3_copies_0 22 rfl rfl)
theorem dX3_copies_23 : decode cX3_copies 23 = .ok (.iinc 4 1, 3) := dk_132 4 1 (dk_at dksX3_copies_1 0 rfl rfl)
theorem dX3_copies_26 : decode cX3_copies 26 = .ok (.goto (-23), 3) := dk_167 255 233 (dk_at dksX3_copies_1 3 rfl rfl)
theorem dX3_copies_29 : decode cX3_copies 29 = .ok (.return_, 1) := dk_177 (dk_at dksX3_copies_1 6 rfl rfl)
def dkwX3_comes_1 : List UInt8 := [28, 104, 96, 3, 96, 27, 79, 42, 180, 0, 7, 16, 6, 5, 28, 104, 96, 4, 96, 4, 79, 28, 172]
abbrev dktX3_comes_1 : List UInt8 := dkwX3_comes_1 ++ []
def dkwX3_comes_0 : List UInt8 := [42, 180, 0, 7, 3, 46, 61, 42, 180, 0, 7, 3, 92, 46, 4, 96, 79, 42, 180, 0, 7, 16, 6, 5]
abbrev dktX3_comes_0 : List UInt8 := dkwX3_comes_0 ++ dktX3_comes_1
theorem dksX3_comes_0 : cX3_comes.data.toList.drop 0 = dktX3_comes_0 := by decide +kernel
theorem dksX3_comes_1 : cX3_comes.data.toList.drop 24 = dktX3_comes_1 := dk_seg dksX3_comes_0 24 rfl rfl
theorem dX3_comes_0 : decode cX3_comes 0 = .ok (.aload_n 0, 1) := dk_42 (dk_at dksX3_comes_0 0 rfl rfl)
theorem dX3_comes_1 : decode cX3_comes 1 = .ok (.getfield 7, 3) := dk_180 0 7 (dk_at dksX3_comes_0 1 rfl rfl)
theorem dX3_comes_4 : decode cX3_comes 4 = .ok (.iconst 0, 1) := dk_3 (dk_at dksX3_comes_0 4 rfl rfl)
theorem dX3_comes_5 : decode cX3_comes 5 = .ok (.iaload, 1) := dk_46 (dk_at dksX3_comes_0 5 rfl rfl)
theorem dX3_comes_6 : decode cX3_comes 6 = .ok (.istore_n 2, 1) := dk_61 (dk_at dksX3_comes_0 6 rfl rfl)
theorem dX3_comes_7 : decode cX3_comes 7 = .ok (.aload_n 0, 1) := dk_42 (dk_at dksX3_comes_0 7 rfl rfl)
theorem dX3_comes_8 : decode cX3_comes 8 = .ok (.getfield 7, 3) := dk_180 0 7 (dk_at dksX3_comes_0 8 rfl rfl)
theorem dX3_comes_11 : decode cX3_comes 11 = .ok (.iconst 0, 1) := dk_3 (dk_at dksX3_comes_0 11 rfl rfl)
theorem dX3_comes_12 : decode cX3_comes 12 = .ok (.dup2, 1) := dk_92 (dk_at dksX3_comes_0 12 rfl rfl)
theorem dX3_comes_13 : decode cX3_comes 13 = .ok (.iaload, 1) := dk_46 (dk_at dksX3_comes_0 13 rfl rfl)
theorem dX3_comes_14 : decode cX3_comes 14 = .ok (.iconst 1, 1) := dk_4 (dk_at dksX3_comes_0 14 rfl rfl)
theorem dX3_comes_15 : decode cX3_comes 15 = .ok (.iadd, 1) := dk_96 (dk_at dksX3_comes_0 15 rfl rfl)
theorem dX3_comes_16 : decode cX3_comes 16 = .ok (.iastore, 1) := dk_79 (dk_at dksX3_comes_0 16 rfl rfl)
theorem dX3_comes_17 : decode cX3_comes 17 = .ok (.aload_n 0, 1) := dk_42 (dk_at dksX3_comes_0 17 rfl rfl)
theorem dX3_comes_18 : decode cX3_comes 18 = .ok (.getfield 7, 3) := dk_180 0 7 (dk_at dksX3_comes_0 18 rfl rfl)
theorem dX3_comes_21 : decode cX3_comes 21 = .ok (.bipush 6, 2) := dk_16 6 (dk_at dksX3_comes_0 21 rfl rfl)
theorem dX3_comes_23 : decode cX3_comes 23 = .ok (.iconst 2, 1) := dk_5 (dk_at dksX3_comes_0 23 rfl rfl)
theorem dX3_comes_24 : decode cX3_comes 24 = .ok (.iload_n 2, 1) := dk_28 (dk_at dksX3_comes_1 0 rfl rfl)
theorem dX3_comes_25 : decode cX3_comes 25 = .ok (.imul, 1) := dk_104 (dk_at dksX3_comes_1 1 rfl rfl)
theorem dX3_comes_26 : decode cX3_comes 26 = .ok (.iadd, 1) := dk_96 (dk_at dksX3_comes_1 2 rfl rfl)
theorem dX3_comes_27 : decode cX3_comes 27 = .ok (.iconst 0, 1) := dk_3 (dk_at dksX3_comes_1 3 rfl rfl)
theorem dX3_comes_28 : decode cX3_comes 28 = .ok (.iadd, 1) := dk_96 (dk_at dksX3_comes_1 4 rfl rfl)
theorem dX3_comes_29 : decode cX3_comes 29 = .ok (.iload_n 1, 1) := dk_27 (dk_at dksX3_comes_1 5 rfl rfl)
theorem dX3_comes_30 : decode cX3_comes 30 = .ok (.iastore, 1) := dk_79 (dk_at dksX3_comes_1 6 rfl rfl)
theorem dX3_comes_31 : decode cX3_comes 31 = .ok (.aload_n 0, 1) := dk_42 (dk_at dksX3_comes_1 7 rfl rfl)
theorem dX3_comes_32 : decode cX3_comes 32 = .ok (.getfield 7, 3) := dk_180 0 7 (dk_at dksX3_comes_1 8 rfl rfl)
theorem dX3_comes_35 : decode cX3_comes 35 = .ok (.bipush 6, 2) := dk_16 6 (dk_at dksX3_comes_1 11 rfl rfl)
theorem dX3_comes_37 : decode cX3_comes 37 = .ok (.iconst 2, 1) := dk_5 (dk_at dksX3_comes_1 13 rfl rfl)
theorem dX3_comes_38 : decode cX3_comes 38 = .ok (.iload_n 2, 1) := dk_28 (dk_at dksX3_comes_1 14 rfl rfl)
theorem dX3_comes_39 : decode cX3_comes 39 = .ok (.imul, 1) := dk_104 (dk_at dksX3_comes_1 15 rfl rfl)
theorem dX3_comes_40 : decode cX3_comes 40 = .ok (.iadd, 1) := dk_96 (dk_at dksX3_comes_1 16 rfl rfl)
theorem dX3_comes_41 : decode cX3_comes 41 = .ok (.iconst 1, 1) := dk_4 (dk_at dksX3_comes_1 17 rfl rfl)
theorem dX3_comes_42 : decode cX3_comes 42 = .ok (.iadd, 1) := dk_96 (dk_at dksX3_comes_1 18 rfl rfl)
theorem dX3_comes_43 : decode cX3_comes 43 = .ok (.iconst 1, 1) := dk_4 (dk_at dksX3_comes_1 19 rfl rfl)
theorem dX3_comes_44 : decode cX3_comes 44 = .ok (.iastore, 1) := dk_79 (dk_at dksX3_comes_1 20 rfl rfl)
theorem dX3_comes_45 : decode cX3_comes 45 = .ok (.iload_n 2, 1) := dk_28 (dk_at dksX3_comes_1 21 rfl rfl)
theorem dX3_comes_46 : decode cX3_comes 46 = .ok (.ireturn, 1) := dk_172 (dk_at dksX3_comes_1 22 rfl rfl)
def dkwX3_addChild_3 : List UInt8 := [182, 0, 78, 172]
abbrev dktX3_addChild_3 : List UInt8 := dkwX3_addChild_3 ++ []
def dkwX3_addChild_2 : List UInt8 := [160, 0, 12, 42, 5, 4, 16, 16, 182, 0, 70, 172, 42, 42, 180, 0, 7, 182, 0, 74, 42, 27]
abbrev dktX3_addChild_2 : List UInt8 := dkwX3_addChild_2 ++ dktX3_addChild_3
def dkwX3_addChild_1 : List UInt8 := [182, 0, 85, 154, 0, 11, 42, 5, 6, 27, 182, 0, 70, 172, 42, 180, 0, 7, 3, 46, 16, 16]
abbrev dktX3_addChild_1 : List UInt8 := dkwX3_addChild_1 ++ dktX3_addChild_2
def dkwX3_addChild_0 : List UInt8 := [42, 42, 27, 182, 0, 66, 153, 0, 7, 3, 167, 0, 4, 4, 182, 0, 82, 153, 0, 5, 3, 172, 42, 27]
abbrev dktX3_addChild_0 : List UInt8 := dkwX3_addChild_0 ++ dktX3_addChild_1
theorem dksX3_addChild_0 : cX3_addChild.data.toList.drop 0 = dktX3_addChild_0 := by decide +kernel
theorem dksX3_addChild_1 : cX3_addChild.data.toList.drop 24 = dktX3_addChild_1 := dk_seg dksX3_addChild_0 24 rfl rfl
theorem dksX3_addChild_2 : cX3_addChild.data.toList.drop 46 = dktX3_addChild_2 := dk_seg dksX3_addChild_1 22 rfl rfl
theorem dksX3_addChild_3 : cX3_addChild.data.toList.drop 68 = dktX3_addChild_3 := dk_seg dksX3_addChild_2 22 rfl rfl
theorem dX3_addChild_0 : decode cX3_addChild 0 = .ok (.aload_n 0, 1) := dk_42 (dk_at dksX3_addChild_0 0 rfl rfl)
theorem dX3_addChild_1 : decode cX3_addChild 1 = .ok (.aload_n 0, 1) := dk_42 (dk_at dksX3_addChild_0 1 rfl rfl)
theorem dX3_addChild_2 : decode cX3_addChild 2 = .ok (.iload_n 1, 1) := dk_27 (dk_at dksX3_addChild_0 2 rfl rfl)
theorem dX3_addChild_3 : decode cX3_addChild 3 = .ok (.invokevirtual 66, 3) := dk_182 0 66 (dk_at dksX3_addChild_0 3 rfl rfl)
theorem dX3_addChild_6 : decode cX3_addChild 6 = .ok (.ifCond .eq 7, 3) := dk_153 0 7 (dk_at dksX3_addChild_0 6 rfl rfl)
theorem dX3_addChild_9 : decode cX3_addChild 9 = .ok (.iconst 0, 1) := dk_3 (dk_at dksX3_addChild_0 9 rfl rfl)
theorem dX3_addChild_10 : decode cX3_addChild 10 = .ok (.goto 4, 3) := dk_167 0 4 (dk_at dksX3_addChild_0 10 rfl rfl)
theorem dX3_addChild_13 : decode cX3_addChild 13 = .ok (.iconst 1, 1) := dk_4 (dk_at dksX3_addChild_0 13 rfl rfl)
theorem dX3_addChild_14 : decode cX3_addChild 14 = .ok (.invokevirtual 82, 3) := dk_182 0 82 (dk_at dksX3_addChild_0 14 rfl rfl)
theorem dX3_addChild_17 : decode cX3_addChild 17 = .ok (.ifCond .eq 5, 3) := dk_153 0 5 (dk_at dksX3_addChild_0 17 rfl rfl)
theorem dX3_addChild_20 : decode cX3_addChild 20 = .ok (.iconst 0, 1) := dk_3 (dk_at dksX3_addChild_0 20 rfl rfl)
theorem dX3_addChild_21 : decode cX3_addChild 21 = .ok (.ireturn, 1) := dk_172 (dk_at dksX3_addChild_0 21 rfl rfl)
theorem dX3_addChild_22 : decode cX3_addChild 22 = .ok (.aload_n 0, 1) := dk_42 (dk_at dksX3_addChild_0 22 rfl rfl)
theorem dX3_addChild_23 : decode cX3_addChild 23 = .ok (.iload_n 1, 1) := dk_27 (dk_at dksX3_addChild_0 23 rfl rfl)
theorem dX3_addChild_24 : decode cX3_addChild 24 = .ok (.invokevirtual 85, 3) := dk_182 0 85 (dk_at dksX3_addChild_1 0 rfl rfl)
theorem dX3_addChild_27 : decode cX3_addChild 27 = .ok (.ifCond .ne 11, 3) := dk_154 0 11 (dk_at dksX3_addChild_1 3 rfl rfl)
theorem dX3_addChild_30 : decode cX3_addChild 30 = .ok (.aload_n 0, 1) := dk_42 (dk_at dksX3_addChild_1 6 rfl rfl)
theorem dX3_addChild_31 : decode cX3_addChild 31 = .ok (.iconst 2, 1) := dk_5 (dk_at dksX3_addChild_1 7 rfl rfl)
theorem dX3_addChild_32 : decode cX3_addChild 32 = .ok (.iconst 3, 1) := dk_6 (dk_at dksX3_addChild_1 8 rfl rfl)
theorem dX3_addChild_33 : decode cX3_addChild 33 = .ok (.iload_n 1, 1) := dk_27 (dk_at dksX3_addChild_1 9 rfl rfl)
theorem dX3_addChild_34 : decode cX3_addChild 34 = .ok (.invokevirtual 70, 3) := dk_182 0 70 (dk_at dksX3_addChild_1 10 rfl rfl)
theorem dX3_addChild_37 : decode cX3_addChild 37 = .ok (.ireturn, 1) := dk_172 (dk_at dksX3_addChild_1 13 rfl rfl)
theorem dX3_addChild_38 : decode cX3_addChild 38 = .ok (.aload_n 0, 1) := dk_42 (dk_at dksX3_addChild_1 14 rfl rfl)
theorem dX3_addChild_39 : decode cX3_addChild 39 = .ok (.getfield 7, 3) := dk_180 0 7 (dk_at dksX3_addChild_1 15 rfl rfl)
theorem dX3_addChild_42 : decode cX3_addChild 42 = .ok (.iconst 0, 1) := dk_3 (dk_at dksX3_addChild_1 18 rfl rfl)
theorem dX3_addChild_43 : decode cX3_addChild 43 = .ok (.iaload, 1) := dk_46 (dk_at dksX3_addChild_1 19 rfl rfl)
theorem dX3_addChild_44 : decode cX3_addChild 44 = .ok (.bipush 16, 2) := dk_16 16 (dk_at dksX3_addChild_1 20 rfl rfl)
theorem dX3_addChild_46 : decode cX3_addChild 46 = .ok (.if_icmp .ne 12, 3) := dk_160 0 12 (dk_at dksX3_addChild_2 0 rfl rfl)
theorem dX3_addChild_49 : decode cX3_addChild 49 = .ok (.aload_n 0, 1) := dk_42 (dk_at dksX3_addChild_2 3 rfl rfl)
theorem dX3_addChild_50 : decode cX3_addChild 50 = .ok (.iconst 2, 1) := dk_5 (dk_at dksX3_addChild_2 4 rfl rfl)
theorem dX3_addChild_51 : decode cX3_addChild 51 = .ok (.iconst 1, 1) := dk_4 (dk_at dksX3_addChild_2 5 rfl rfl)
theorem dX3_addChild_52 : decode cX3_addChild 52 = .ok (.bipush 16, 2) := dk_16 16 (dk_at dksX3_addChild_2 6 rfl rfl)
theorem dX3_addChild_54 : decode cX3_addChild 54 = .ok (.invokevirtual 70, 3) := dk_182 0 70 (dk_at dksX3_addChild_2 8 rfl rfl)
theorem dX3_addChild_57 : decode cX3_addChild 57 = .ok (.ireturn, 1) := dk_172 (dk_at dksX3_addChild_2 11 rfl rfl)
theorem dX3_addChild_58 : decode cX3_addChild 58 = .ok (.aload_n 0, 1) := dk_42 (dk_at dksX3_addChild_2 12 rfl rfl)
theorem dX3_addChild_59 : decode cX3_addChild 59 = .ok (.aload_n 0, 1) := dk_42 (dk_at dksX3_addChild_2 13 rfl rfl)
theorem dX3_addChild_60 : decode cX3_addChild 60 = .ok (.getfield 7, 3) := dk_180 0 7 (dk_at dksX3_addChild_2 14 rfl rfl)
theorem dX3_addChild_63 : decode cX3_addChild 63 = .ok (.invokevirtual 74, 3) := dk_182 0 74 (dk_at dksX3_addChild_2 17 rfl rfl)
theorem dX3_addChild_66 : decode cX3_addChild 66 = .ok (.aload_n 0, 1) := dk_42 (dk_at dksX3_addChild_2 20 rfl rfl)
theorem dX3_addChild_67 : decode cX3_addChild 67 = .ok (.iload_n 1, 1) := dk_27 (dk_at dksX3_addChild_2 21 rfl rfl)
theorem dX3_addChild_68 : decode cX3_addChild 68 = .ok (.invokevirtual 78, 3) := dk_182 0 78 (dk_at dksX3_addChild_3 0 rfl rfl)
theorem dX3_addChild_71 : decode cX3_addChild 71 = .ok (.ireturn, 1) := dk_172 (dk_at dksX3_addChild_3 3 rfl rfl)
def dkwX3_isPerson_0 : List UInt8 := [27, 3, 42, 180, 0, 7, 3, 46, 4, 100, 184, 0, 62, 172]
abbrev dktX3_isPerson_0 : List UInt8 := dkwX3_isPerson_0 ++ []
theorem dksX3_isPerson_0 : cX3_isPerson.data.toList.drop 0 = dktX3_isPerson_0 := by decide +kernel
theorem dX3_isPerson_0 : decode cX3_isPerson 0 = .ok (.iload_n 1, 1) := dk_27 (dk_at dksX3_isPerson_0 0 rfl rfl)
theorem dX3_isPerson_1 : decode cX3_isPerson 1 = .ok (.iconst 0, 1) := dk_3 (dk_at dksX3_isPerson_0 1 rfl rfl)
theorem dX3_isPerson_2 : decode cX3_isPerson 2 = .ok (.aload_n 0, 1) := dk_42 (dk_at dksX3_isPerson_0 2 rfl rfl)
theorem dX3_isPerson_3 : decode cX3_isPerson 3 = .ok (.getfield 7, 3) := dk_180 0 7 (dk_at dksX3_isPerson_0 3 rfl rfl)
theorem dX3_isPerson_6 : decode cX3_isPerson 6 = .ok (.iconst 0, 1) := dk_3 (dk_at dksX3_isPerson_0 6 rfl rfl)
theorem dX3_isPerson_7 : decode cX3_isPerson 7 = .ok (.iaload, 1) := dk_46 (dk_at dksX3_isPerson_0 7 rfl rfl)
theorem dX3_isPerson_8 : decode cX3_isPerson 8 = .ok (.iconst 1, 1) := dk_4 (dk_at dksX3_isPerson_0 8 rfl rfl)
theorem dX3_isPerson_9 : decode cX3_isPerson 9 = .ok (.isub, 1) := dk_100 (dk_at dksX3_isPerson_0 9 rfl rfl)
theorem dX3_isPerson_10 : decode cX3_isPerson 10 = .ok (.invokestatic 62, 3) := dk_184 0 62 (dk_at dksX3_isPerson_0 10 rfl rfl)
theorem dX3_isPerson_13 : decode cX3_isPerson 13 = .ok (.ireturn, 1) := dk_172 (dk_at dksX3_isPerson_0 13 rfl rfl)
def dkwX3_in_0 : List UInt8 := [26, 27, 161, 0, 12, 26, 28, 163, 0, 7, 4, 167, 0, 4, 3, 172]
abbrev dktX3_in_0 : List UInt8 := dkwX3_in_0 ++ []
theorem dksX3_in_0 : cX3_in.data.toList.drop 0 = dktX3_in_0 := by decide +kernel
theorem dX3_in_0 : decode cX3_in 0 = .ok (.iload_n 0, 1) := dk_26 (dk_at dksX3_in_0 0 rfl rfl)
theorem dX3_in_1 : decode cX3_in 1 = .ok (.iload_n 1, 1) := dk_27 (dk_at dksX3_in_0 1 rfl rfl)
theorem dX3_in_2 : decode cX3_in 2 = .ok (.if_icmp .lt 12, 3) := dk_161 0 12 (dk_at dksX3_in_0 2 rfl rfl)
theorem dX3_in_5 : decode cX3_in 5 = .ok (.iload_n 0, 1) := dk_26 (dk_at dksX3_in_0 5 rfl rfl)
theorem dX3_in_6 : decode cX3_in 6 = .ok (.iload_n 2, 1) := dk_28 (dk_at dksX3_in_0 6 rfl rfl)
theorem dX3_in_7 : decode cX3_in 7 = .ok (.if_icmp .gt 7, 3) := dk_163 0 7 (dk_at dksX3_in_0 7 rfl rfl)
theorem dX3_in_10 : decode cX3_in 10 = .ok (.iconst 1, 1) := dk_4 (dk_at dksX3_in_0 10 rfl rfl)
theorem dX3_in_11 : decode cX3_in 11 = .ok (.goto 4, 3) := dk_167 0 4 (dk_at dksX3_in_0 11 rfl rfl)
theorem dX3_in_14 : decode cX3_in 14 = .ok (.iconst 0, 1) := dk_3 (dk_at dksX3_in_0 14 rfl rfl)
theorem dX3_in_15 : decode cX3_in 15 = .ok (.ireturn, 1) := dk_172 (dk_at dksX3_in_0 15 rfl rfl)
def dkwX3_fails_0 : List UInt8 := [42, 27, 181, 0, 36, 42, 3, 181, 0, 39, 27, 158, 0, 7, 4, 167, 0, 4, 3, 172]
abbrev dktX3_fails_0 : List UInt8 := dkwX3_fails_0 ++ []
theorem dksX3_fails_0 : cX3_fails.data.toList.drop 0 = dktX3_fails_0 := by decide +kernel
theorem dX3_fails_0 : decode cX3_fails 0 = .ok (.aload_n 0, 1) := dk_42 (dk_at dksX3_fails_0 0 rfl rfl)
theorem dX3_fails_1 : decode cX3_fails 1 = .ok (.iload_n 1, 1) := dk_27 (dk_at dksX3_fails_0 1 rfl rfl)
theorem dX3_fails_2 : decode cX3_fails 2 = .ok (.putfield 36, 3) := dk_181 0 36 (dk_at dksX3_fails_0 2 rfl rfl)
theorem dX3_fails_5 : decode cX3_fails 5 = .ok (.aload_n 0, 1) := dk_42 (dk_at dksX3_fails_0 5 rfl rfl)
theorem dX3_fails_6 : decode cX3_fails 6 = .ok (.iconst 0, 1) := dk_3 (dk_at dksX3_fails_0 6 rfl rfl)
theorem dX3_fails_7 : decode cX3_fails 7 = .ok (.putfield 39, 3) := dk_181 0 39 (dk_at dksX3_fails_0 7 rfl rfl)
theorem dX3_fails_10 : decode cX3_fails 10 = .ok (.iload_n 1, 1) := dk_27 (dk_at dksX3_fails_0 10 rfl rfl)
theorem dX3_fails_11 : decode cX3_fails 11 = .ok (.ifCond .le 7, 3) := dk_158 0 7 (dk_at dksX3_fails_0 11 rfl rfl)
theorem dX3_fails_14 : decode cX3_fails 14 = .ok (.iconst 1, 1) := dk_4 (dk_at dksX3_fails_0 14 rfl rfl)
theorem dX3_fails_15 : decode cX3_fails 15 = .ok (.goto 4, 3) := dk_167 0 4 (dk_at dksX3_fails_0 15 rfl rfl)
theorem dX3_fails_18 : decode cX3_fails 18 = .ok (.iconst 0, 1) := dk_3 (dk_at dksX3_fails_0 18 rfl rfl)
theorem dX3_fails_19 : decode cX3_fails 19 = .ok (.ireturn, 1) := dk_172 (dk_at dksX3_fails_0 19 rfl rfl)
def dkwX3_lives_0 : List UInt8 := [42, 180, 0, 7, 16, 6, 5, 27, 104, 96, 4, 96, 46, 4, 160, 0, 7, 4, 167, 0, 4, 3, 172]
abbrev dktX3_lives_0 : List UInt8 := dkwX3_lives_0 ++ []
theorem dksX3_lives_0 : cX3_lives.data.toList.drop 0 = dktX3_lives_0 := by decide +kernel
theorem dX3_lives_0 : decode cX3_lives 0 = .ok (.aload_n 0, 1) := dk_42 (dk_at dksX3_lives_0 0 rfl rfl)
theorem dX3_lives_1 : decode cX3_lives 1 = .ok (.getfield 7, 3) := dk_180 0 7 (dk_at dksX3_lives_0 1 rfl rfl)
theorem dX3_lives_4 : decode cX3_lives 4 = .ok (.bipush 6, 2) := dk_16 6 (dk_at dksX3_lives_0 4 rfl rfl)
theorem dX3_lives_6 : decode cX3_lives 6 = .ok (.iconst 2, 1) := dk_5 (dk_at dksX3_lives_0 6 rfl rfl)
theorem dX3_lives_7 : decode cX3_lives 7 = .ok (.iload_n 1, 1) := dk_27 (dk_at dksX3_lives_0 7 rfl rfl)
theorem dX3_lives_8 : decode cX3_lives 8 = .ok (.imul, 1) := dk_104 (dk_at dksX3_lives_0 8 rfl rfl)
theorem dX3_lives_9 : decode cX3_lives 9 = .ok (.iadd, 1) := dk_96 (dk_at dksX3_lives_0 9 rfl rfl)
theorem dX3_lives_10 : decode cX3_lives 10 = .ok (.iconst 1, 1) := dk_4 (dk_at dksX3_lives_0 10 rfl rfl)
theorem dX3_lives_11 : decode cX3_lives 11 = .ok (.iadd, 1) := dk_96 (dk_at dksX3_lives_0 11 rfl rfl)
theorem dX3_lives_12 : decode cX3_lives 12 = .ok (.iaload, 1) := dk_46 (dk_at dksX3_lives_0 12 rfl rfl)
theorem dX3_lives_13 : decode cX3_lives 13 = .ok (.iconst 1, 1) := dk_4 (dk_at dksX3_lives_0 13 rfl rfl)
theorem dX3_lives_14 : decode cX3_lives 14 = .ok (.if_icmp .ne 7, 3) := dk_160 0 7 (dk_at dksX3_lives_0 14 rfl rfl)
theorem dX3_lives_17 : decode cX3_lives 17 = .ok (.iconst 1, 1) := dk_4 (dk_at dksX3_lives_0 17 rfl rfl)
theorem dX3_lives_18 : decode cX3_lives 18 = .ok (.goto 4, 3) := dk_167 0 4 (dk_at dksX3_lives_0 18 rfl rfl)
theorem dX3_lives_21 : decode cX3_lives 21 = .ok (.iconst 0, 1) := dk_3 (dk_at dksX3_lives_0 21 rfl rfl)
theorem dX3_lives_22 : decode cX3_lives 22 = .ok (.ireturn, 1) := dk_172 (dk_at dksX3_lives_0 22 rfl rfl)
def dkwX3_bury_4 : List UInt8 := [96, 61, 132, 3, 1, 167, 255, 220, 28, 172]
abbrev dktX3_bury_4 : List UInt8 := dkwX3_bury_4 ++ []
def dkwX3_bury_3 : List UInt8 := [162, 0, 32, 28, 42, 29, 3, 182, 0, 101, 27, 160, 0, 12, 42, 29, 27, 182, 0, 121, 167, 0, 4, 3]
abbrev dktX3_bury_3 : List UInt8 := dkwX3_bury_3 ++ dktX3_bury_4
def dkwX3_bury_2 : List UInt8 := [180, 0, 7, 16, 6, 5, 27, 104, 96, 4, 96, 3, 79, 3, 61, 3, 62, 29, 42, 180, 0, 7, 4, 46]
abbrev dktX3_bury_2 : List UInt8 := dkwX3_bury_2 ++ dktX3_bury_3
def dkwX3_bury_1 : List UInt8 := [182, 0, 85, 154, 0, 11, 42, 5, 6, 27, 182, 0, 70, 172, 42, 42, 180, 0, 7, 182, 0, 74, 42]
abbrev dktX3_bury_1 : List UInt8 := dkwX3_bury_1 ++ dktX3_bury_2
def dkwX3_bury_0 : List UInt8 := [42, 42, 27, 182, 0, 66, 153, 0, 7, 3, 167, 0, 4, 4, 182, 0, 82, 153, 0, 5, 3, 172, 42, 27]
abbrev dktX3_bury_0 : List UInt8 := dkwX3_bury_0 ++ dktX3_bury_1
theorem dksX3_bury_0 : cX3_bury.data.toList.drop 0 = dktX3_bury_0 := by decide +kernel
theorem dksX3_bury_1 : cX3_bury.data.toList.drop 24 = dktX3_bury_1 := dk_seg dksX3_bury_0 24 rfl rfl
theorem dksX3_bury_2 : cX3_bury.data.toList.drop 47 = dktX3_bury_2 := dk_seg dksX3_bury_1 23 rfl rfl
theorem dksX3_bury_3 : cX3_bury.data.toList.drop 71 = dktX3_bury_3 := dk_seg dksX3_bury_2 24 rfl rfl
theorem dksX3_bury_4 : cX3_bury.data.toList.drop 95 = dktX3_bury_4 := dk_seg dksX3_bury_3 24 rfl rfl
theorem dX3_bury_0 : decode cX3_bury 0 = .ok (.aload_n 0, 1) := dk_42 (dk_at dksX3_bury_0 0 rfl rfl)
theorem dX3_bury_1 : decode cX3_bury 1 = .ok (.aload_n 0, 1) := dk_42 (dk_at dksX3_bury_0 1 rfl rfl)
theorem dX3_bury_2 : decode cX3_bury 2 = .ok (.iload_n 1, 1) := dk_27 (dk_at dksX3_bury_0 2 rfl rfl)
theorem dX3_bury_3 : decode cX3_bury 3 = .ok (.invokevirtual 66, 3) := dk_182 0 66 (dk_at dksX3_bury_0 3 rfl rfl)
theorem dX3_bury_6 : decode cX3_bury 6 = .ok (.ifCond .eq 7, 3) := dk_153 0 7 (dk_at dksX3_bury_0 6 rfl rfl)
theorem dX3_bury_9 : decode cX3_bury 9 = .ok (.iconst 0, 1) := dk_3 (dk_at dksX3_bury_0 9 rfl rfl)
theorem dX3_bury_10 : decode cX3_bury 10 = .ok (.goto 4, 3) := dk_167 0 4 (dk_at dksX3_bury_0 10 rfl rfl)
theorem dX3_bury_13 : decode cX3_bury 13 = .ok (.iconst 1, 1) := dk_4 (dk_at dksX3_bury_0 13 rfl rfl)
theorem dX3_bury_14 : decode cX3_bury 14 = .ok (.invokevirtual 82, 3) := dk_182 0 82 (dk_at dksX3_bury_0 14 rfl rfl)
theorem dX3_bury_17 : decode cX3_bury 17 = .ok (.ifCond .eq 5, 3) := dk_153 0 5 (dk_at dksX3_bury_0 17 rfl rfl)
theorem dX3_bury_20 : decode cX3_bury 20 = .ok (.iconst 0, 1) := dk_3 (dk_at dksX3_bury_0 20 rfl rfl)
theorem dX3_bury_21 : decode cX3_bury 21 = .ok (.ireturn, 1) := dk_172 (dk_at dksX3_bury_0 21 rfl rfl)
theorem dX3_bury_22 : decode cX3_bury 22 = .ok (.aload_n 0, 1) := dk_42 (dk_at dksX3_bury_0 22 rfl rfl)
theorem dX3_bury_23 : decode cX3_bury 23 = .ok (.iload_n 1, 1) := dk_27 (dk_at dksX3_bury_0 23 rfl rfl)
theorem dX3_bury_24 : decode cX3_bury 24 = .ok (.invokevirtual 85, 3) := dk_182 0 85 (dk_at dksX3_bury_1 0 rfl rfl)
theorem dX3_bury_27 : decode cX3_bury 27 = .ok (.ifCond .ne 11, 3) := dk_154 0 11 (dk_at dksX3_bury_1 3 rfl rfl)
theorem dX3_bury_30 : decode cX3_bury 30 = .ok (.aload_n 0, 1) := dk_42 (dk_at dksX3_bury_1 6 rfl rfl)
theorem dX3_bury_31 : decode cX3_bury 31 = .ok (.iconst 2, 1) := dk_5 (dk_at dksX3_bury_1 7 rfl rfl)
theorem dX3_bury_32 : decode cX3_bury 32 = .ok (.iconst 3, 1) := dk_6 (dk_at dksX3_bury_1 8 rfl rfl)
theorem dX3_bury_33 : decode cX3_bury 33 = .ok (.iload_n 1, 1) := dk_27 (dk_at dksX3_bury_1 9 rfl rfl)
theorem dX3_bury_34 : decode cX3_bury 34 = .ok (.invokevirtual 70, 3) := dk_182 0 70 (dk_at dksX3_bury_1 10 rfl rfl)
theorem dX3_bury_37 : decode cX3_bury 37 = .ok (.ireturn, 1) := dk_172 (dk_at dksX3_bury_1 13 rfl rfl)
theorem dX3_bury_38 : decode cX3_bury 38 = .ok (.aload_n 0, 1) := dk_42 (dk_at dksX3_bury_1 14 rfl rfl)
theorem dX3_bury_39 : decode cX3_bury 39 = .ok (.aload_n 0, 1) := dk_42 (dk_at dksX3_bury_1 15 rfl rfl)
theorem dX3_bury_40 : decode cX3_bury 40 = .ok (.getfield 7, 3) := dk_180 0 7 (dk_at dksX3_bury_1 16 rfl rfl)
theorem dX3_bury_43 : decode cX3_bury 43 = .ok (.invokevirtual 74, 3) := dk_182 0 74 (dk_at dksX3_bury_1 19 rfl rfl)
theorem dX3_bury_46 : decode cX3_bury 46 = .ok (.aload_n 0, 1) := dk_42 (dk_at dksX3_bury_1 22 rfl rfl)
theorem dX3_bury_47 : decode cX3_bury 47 = .ok (.getfield 7, 3) := dk_180 0 7 (dk_at dksX3_bury_2 0 rfl rfl)
theorem dX3_bury_50 : decode cX3_bury 50 = .ok (.bipush 6, 2) := dk_16 6 (dk_at dksX3_bury_2 3 rfl rfl)
theorem dX3_bury_52 : decode cX3_bury 52 = .ok (.iconst 2, 1) := dk_5 (dk_at dksX3_bury_2 5 rfl rfl)
theorem dX3_bury_53 : decode cX3_bury 53 = .ok (.iload_n 1, 1) := dk_27 (dk_at dksX3_bury_2 6 rfl rfl)
theorem dX3_bury_54 : decode cX3_bury 54 = .ok (.imul, 1) := dk_104 (dk_at dksX3_bury_2 7 rfl rfl)
theorem dX3_bury_55 : decode cX3_bury 55 = .ok (.iadd, 1) := dk_96 (dk_at dksX3_bury_2 8 rfl rfl)
theorem dX3_bury_56 : decode cX3_bury 56 = .ok (.iconst 1, 1) := dk_4 (dk_at dksX3_bury_2 9 rfl rfl)
theorem dX3_bury_57 : decode cX3_bury 57 = .ok (.iadd, 1) := dk_96 (dk_at dksX3_bury_2 10 rfl rfl)
theorem dX3_bury_58 : decode cX3_bury 58 = .ok (.iconst 0, 1) := dk_3 (dk_at dksX3_bury_2 11 rfl rfl)
theorem dX3_bury_59 : decode cX3_bury 59 = .ok (.iastore, 1) := dk_79 (dk_at dksX3_bury_2 12 rfl rfl)
theorem dX3_bury_60 : decode cX3_bury 60 = .ok (.iconst 0, 1) := dk_3 (dk_at dksX3_bury_2 13 rfl rfl)
theorem dX3_bury_61 : decode cX3_bury 61 = .ok (.istore_n 2, 1) := dk_61 (dk_at dksX3_bury_2 14 rfl rfl)
theorem dX3_bury_62 : decode cX3_bury 62 = .ok (.iconst 0, 1) := dk_3 (dk_at dksX3_bury_2 15 rfl rfl)
theorem dX3_bury_63 : decode cX3_bury 63 = .ok (.istore_n 3, 1) := dk_62 (dk_at dksX3_bury_2 16 rfl rfl)
theorem dX3_bury_64 : decode cX3_bury 64 = .ok (.iload_n 3, 1) := dk_29 (dk_at dksX3_bury_2 17 rfl rfl)
theorem dX3_bury_65 : decode cX3_bury 65 = .ok (.aload_n 0, 1) := dk_42 (dk_at dksX3_bury_2 18 rfl rfl)
theorem dX3_bury_66 : decode cX3_bury 66 = .ok (.getfield 7, 3) := dk_180 0 7 (dk_at dksX3_bury_2 19 rfl rfl)
theorem dX3_bury_69 : decode cX3_bury 69 = .ok (.iconst 1, 1) := dk_4 (dk_at dksX3_bury_2 22 rfl rfl)
theorem dX3_bury_70 : decode cX3_bury 70 = .ok (.iaload, 1) := dk_46 (dk_at dksX3_bury_2 23 rfl rfl)
theorem dX3_bury_71 : decode cX3_bury 71 = .ok (.if_icmp .ge 32, 3) := dk_162 0 32 (dk_at dksX3_bury_3 0 rfl rfl)
theorem dX3_bury_74 : decode cX3_bury 74 = .ok (.iload_n 2, 1) := dk_28 (dk_at dksX3_bury_3 3 rfl rfl)
theorem dX3_bury_75 : decode cX3_bury 75 = .ok (.aload_n 0, 1) := dk_42 (dk_at dksX3_bury_3 4 rfl rfl)
theorem dX3_bury_76 : decode cX3_bury 76 = .ok (.iload_n 3, 1) := dk_29 (dk_at dksX3_bury_3 5 rfl rfl)
theorem dX3_bury_77 : decode cX3_bury 77 = .ok (.iconst 0, 1) := dk_3 (dk_at dksX3_bury_3 6 rfl rfl)
theorem dX3_bury_78 : decode cX3_bury 78 = .ok (.invokevirtual 101, 3) := dk_182 0 101 (dk_at dksX3_bury_3 7 rfl rfl)
theorem dX3_bury_81 : decode cX3_bury 81 = .ok (.iload_n 1, 1) := dk_27 (dk_at dksX3_bury_3 10 rfl rfl)
theorem dX3_bury_82 : decode cX3_bury 82 = .ok (.if_icmp .ne 12, 3) := dk_160 0 12 (dk_at dksX3_bury_3 11 rfl rfl)
theorem dX3_bury_85 : decode cX3_bury 85 = .ok (.aload_n 0, 1) := dk_42 (dk_at dksX3_bury_3 14 rfl rfl)
theorem dX3_bury_86 : decode cX3_bury 86 = .ok (.iload_n 3, 1) := dk_29 (dk_at dksX3_bury_3 15 rfl rfl)
theorem dX3_bury_87 : decode cX3_bury 87 = .ok (.iload_n 1, 1) := dk_27 (dk_at dksX3_bury_3 16 rfl rfl)
theorem dX3_bury_88 : decode cX3_bury 88 = .ok (.invokevirtual 121, 3) := dk_182 0 121 (dk_at dksX3_bury_3 17 rfl rfl)
theorem dX3_bury_91 : decode cX3_bury 91 = .ok (.goto 4, 3) := dk_167 0 4 (dk_at dksX3_bury_3 20 rfl rfl)
theorem dX3_bury_94 : decode cX3_bury 94 = .ok (.iconst 0, 1) := dk_3 (dk_at dksX3_bury_3 23 rfl rfl)
theorem dX3_bury_95 : decode cX3_bury 95 = .ok (.iadd, 1) := dk_96 (dk_at dksX3_bury_4 0 rfl rfl)
theorem dX3_bury_96 : decode cX3_bury 96 = .ok (.istore_n 2, 1) := dk_61 (dk_at dksX3_bury_4 1 rfl rfl)
theorem dX3_bury_97 : decode cX3_bury 97 = .ok (.iinc 3 1, 3) := dk_132 3 1 (dk_at dksX3_bury_4 2 rfl rfl)
theorem dX3_bury_100 : decode cX3_bury 100 = .ok (.goto (-36), 3) := dk_167 255 220 (dk_at dksX3_bury_4 5 rfl rfl)
theorem dX3_bury_103 : decode cX3_bury 103 = .ok (.iload_n 2, 1) := dk_28 (dk_at dksX3_bury_4 8 rfl rfl)
theorem dX3_bury_104 : decode cX3_bury 104 = .ok (.ireturn, 1) := dk_172 (dk_at dksX3_bury_4 9 rfl rfl)
def dkwX3_of_0 : List UInt8 := [42, 180, 0, 7, 16, 38, 8, 27, 104, 96, 28, 96, 46, 172]
abbrev dktX3_of_0 : List UInt8 := dkwX3_of_0 ++ []
theorem dksX3_of_0 : cX3_of.data.toList.drop 0 = dktX3_of_0 := by decide +kernel
theorem dX3_of_0 : decode cX3_of 0 = .ok (.aload_n 0, 1) := dk_42 (dk_at dksX3_of_0 0 rfl rfl)
theorem dX3_of_1 : decode cX3_of 1 = .ok (.getfield 7, 3) := dk_180 0 7 (dk_at dksX3_of_0 1 rfl rfl)
theorem dX3_of_4 : decode cX3_of 4 = .ok (.bipush 38, 2) := dk_16 38 (dk_at dksX3_of_0 4 rfl rfl)
theorem dX3_of_6 : decode cX3_of 6 = .ok (.iconst 5, 1) := dk_8 (dk_at dksX3_of_0 6 rfl rfl)
theorem dX3_of_7 : decode cX3_of 7 = .ok (.iload_n 1, 1) := dk_27 (dk_at dksX3_of_0 7 rfl rfl)
theorem dX3_of_8 : decode cX3_of 8 = .ok (.imul, 1) := dk_104 (dk_at dksX3_of_0 8 rfl rfl)
theorem dX3_of_9 : decode cX3_of 9 = .ok (.iadd, 1) := dk_96 (dk_at dksX3_of_0 9 rfl rfl)
theorem dX3_of_10 : decode cX3_of 10 = .ok (.iload_n 2, 1) := dk_28 (dk_at dksX3_of_0 10 rfl rfl)
theorem dX3_of_11 : decode cX3_of 11 = .ok (.iadd, 1) := dk_96 (dk_at dksX3_of_0 11 rfl rfl)
theorem dX3_of_12 : decode cX3_of 12 = .ok (.iaload, 1) := dk_46 (dk_at dksX3_of_0 12 rfl rfl)
theorem dX3_of_13 : decode cX3_of 13 = .ok (.ireturn, 1) := dk_172 (dk_at dksX3_of_0 13 rfl rfl)
def dkwX3_inherits_4 : List UInt8 := [182, 0, 114, 42, 180, 0, 7, 7, 92, 46, 4, 96, 79, 42, 27, 182, 0, 107, 4, 172]
abbrev dktX3_inherits_4 : List UInt8 := dkwX3_inherits_4 ++ []
def dkwX3_inherits_3 : List UInt8 := [172, 42, 21, 4, 5, 16, 9, 42, 21, 4, 5, 182, 0, 101, 42, 27, 5, 182, 0, 101, 96, 184, 0, 118]
abbrev dktX3_inherits_3 : List UInt8 := dkwX3_inherits_3 ++ dktX3_inherits_4
def dkwX3_inherits_2 : List UInt8 := [42, 27, 4, 182, 0, 101, 182, 0, 111, 54, 4, 21, 4, 156, 0, 12, 42, 27, 3, 29, 182, 0, 114, 4]
abbrev dktX3_inherits_2 : List UInt8 := dkwX3_inherits_2 ++ dktX3_inherits_3
def dkwX3_inherits_1 : List UInt8 := [62, 29, 156, 0, 20, 42, 180, 0, 7, 8, 92, 46, 4, 96, 79, 42, 27, 182, 0, 107, 3, 172, 42, 29]
abbrev dktX3_inherits_1 : List UInt8 := dkwX3_inherits_1 ++ dktX3_inherits_2
def dkwX3_inherits_0 : List UInt8 := [42, 27, 6, 182, 0, 101, 4, 160, 0, 12, 42, 28, 28, 182, 0, 98, 167, 0, 8, 42, 28, 182, 0, 104]
abbrev dktX3_inherits_0 : List UInt8 := dkwX3_inherits_0 ++ dktX3_inherits_1
theorem dksX3_inherits_0 : cX3_inherits.data.toList.drop 0 = dktX3_inherits_0 := by decide +kernel
theorem dksX3_inherits_1 : cX3_inherits.data.toList.drop 24 = dktX3_inherits_1 := dk_seg dksX3_inherits_0 24 rfl rfl
theorem dksX3_inherits_2 : cX3_inherits.data.toList.drop 48 = dktX3_inherits_2 := dk_seg dksX3_inherits_1 24 rfl rfl
theorem dksX3_inherits_3 : cX3_inherits.data.toList.drop 72 = dktX3_inherits_3 := dk_seg dksX3_inherits_2 24 rfl rfl
theorem dksX3_inherits_4 : cX3_inherits.data.toList.drop 96 = dktX3_inherits_4 := dk_seg dksX3_inherits_3 24 rfl rfl
theorem dX3_inherits_0 : decode cX3_inherits 0 = .ok (.aload_n 0, 1) := dk_42 (dk_at dksX3_inherits_0 0 rfl rfl)
theorem dX3_inherits_1 : decode cX3_inherits 1 = .ok (.iload_n 1, 1) := dk_27 (dk_at dksX3_inherits_0 1 rfl rfl)
theorem dX3_inherits_2 : decode cX3_inherits 2 = .ok (.iconst 3, 1) := dk_6 (dk_at dksX3_inherits_0 2 rfl rfl)
theorem dX3_inherits_3 : decode cX3_inherits 3 = .ok (.invokevirtual 101, 3) := dk_182 0 101 (dk_at dksX3_inherits_0 3 rfl rfl)
theorem dX3_inherits_6 : decode cX3_inherits 6 = .ok (.iconst 1, 1) := dk_4 (dk_at dksX3_inherits_0 6 rfl rfl)
theorem dX3_inherits_7 : decode cX3_inherits 7 = .ok (.if_icmp .ne 12, 3) := dk_160 0 12 (dk_at dksX3_inherits_0 7 rfl rfl)
theorem dX3_inherits_10 : decode cX3_inherits 10 = .ok (.aload_n 0, 1) := dk_42 (dk_at dksX3_inherits_0 10 rfl rfl)
theorem dX3_inherits_11 : decode cX3_inherits 11 = .ok (.iload_n 2, 1) := dk_28 (dk_at dksX3_inherits_0 11 rfl rfl)
theorem dX3_inherits_12 : decode cX3_inherits 12 = .ok (.iload_n 2, 1) := dk_28 (dk_at dksX3_inherits_0 12 rfl rfl)
theorem dX3_inherits_13 : decode cX3_inherits 13 = .ok (.invokevirtual 98, 3) := dk_182 0 98 (dk_at dksX3_inherits_0 13 rfl rfl)
theorem dX3_inherits_16 : decode cX3_inherits 16 = .ok (.goto 8, 3) := dk_167 0 8 (dk_at dksX3_inherits_0 16 rfl rfl)
theorem dX3_inherits_19 : decode cX3_inherits 19 = .ok (.aload_n 0, 1) := dk_42 (dk_at dksX3_inherits_0 19 rfl rfl)
theorem dX3_inherits_20 : decode cX3_inherits 20 = .ok (.iload_n 2, 1) := dk_28 (dk_at dksX3_inherits_0 20 rfl rfl)
theorem dX3_inherits_21 : decode cX3_inherits 21 = .ok (.invokevirtual 104, 3) := dk_182 0 104 (dk_at dksX3_inherits_0 21 rfl rfl)
theorem dX3_inherits_24 : decode cX3_inherits 24 = .ok (.istore_n 3, 1) := dk_62 (dk_at dksX3_inherits_1 0 rfl rfl)
theorem dX3_inherits_25 : decode cX3_inherits 25 = .ok (.iload_n 3, 1) := dk_29 (dk_at dksX3_inherits_1 1 rfl rfl)
theorem dX3_inherits_26 : decode cX3_inherits 26 = .ok (.ifCond .ge 20, 3) := dk_156 0 20 (dk_at dksX3_inherits_1 2 rfl rfl)
theorem dX3_inherits_29 : decode cX3_inherits 29 = .ok (.aload_n 0, 1) := dk_42 (dk_at dksX3_inherits_1 5 rfl rfl)
theorem dX3_inherits_30 : decode cX3_inherits 30 = .ok (.getfield 7, 3) := dk_180 0 7 (dk_at dksX3_inherits_1 6 rfl rfl)
theorem dX3_inherits_33 : decode cX3_inherits 33 = .ok (.iconst 5, 1) := dk_8 (dk_at dksX3_inherits_1 9 rfl rfl)
theorem dX3_inherits_34 : decode cX3_inherits 34 = .ok (.dup2, 1) := dk_92 (dk_at dksX3_inherits_1 10 rfl rfl)
theorem dX3_inherits_35 : decode cX3_inherits 35 = .ok (.iaload, 1) := dk_46 (dk_at dksX3_inherits_1 11 rfl rfl)
theorem dX3_inherits_36 : decode cX3_inherits 36 = .ok (.iconst 1, 1) := dk_4 (dk_at dksX3_inherits_1 12 rfl rfl)
theorem dX3_inherits_37 : decode cX3_inherits 37 = .ok (.iadd, 1) := dk_96 (dk_at dksX3_inherits_1 13 rfl rfl)
theorem dX3_inherits_38 : decode cX3_inherits 38 = .ok (.iastore, 1) := dk_79 (dk_at dksX3_inherits_1 14 rfl rfl)
theorem dX3_inherits_39 : decode cX3_inherits 39 = .ok (.aload_n 0, 1) := dk_42 (dk_at dksX3_inherits_1 15 rfl rfl)
theorem dX3_inherits_40 : decode cX3_inherits 40 = .ok (.iload_n 1, 1) := dk_27 (dk_at dksX3_inherits_1 16 rfl rfl)
theorem dX3_inherits_41 : decode cX3_inherits 41 = .ok (.invokevirtual 107, 3) := dk_182 0 107 (dk_at dksX3_inherits_1 17 rfl rfl)
theorem dX3_inherits_44 : decode cX3_inherits 44 = .ok (.iconst 0, 1) := dk_3 (dk_at dksX3_inherits_1 20 rfl rfl)
theorem dX3_inherits_45 : decode cX3_inherits 45 = .ok (.ireturn, 1) := dk_172 (dk_at dksX3_inherits_1 21 rfl rfl)
theorem dX3_inherits_46 : decode cX3_inherits 46 = .ok (.aload_n 0, 1) := dk_42 (dk_at dksX3_inherits_1 22 rfl rfl)
theorem dX3_inherits_47 : decode cX3_inherits 47 = .ok (.iload_n 3, 1) := dk_29 (dk_at dksX3_inherits_1 23 rfl rfl)
theorem dX3_inherits_48 : decode cX3_inherits 48 = .ok (.aload_n 0, 1) := dk_42 (dk_at dksX3_inherits_2 0 rfl rfl)
theorem dX3_inherits_49 : decode cX3_inherits 49 = .ok (.iload_n 1, 1) := dk_27 (dk_at dksX3_inherits_2 1 rfl rfl)
theorem dX3_inherits_50 : decode cX3_inherits 50 = .ok (.iconst 1, 1) := dk_4 (dk_at dksX3_inherits_2 2 rfl rfl)
theorem dX3_inherits_51 : decode cX3_inherits 51 = .ok (.invokevirtual 101, 3) := dk_182 0 101 (dk_at dksX3_inherits_2 3 rfl rfl)
theorem dX3_inherits_54 : decode cX3_inherits 54 = .ok (.invokevirtual 111, 3) := dk_182 0 111 (dk_at dksX3_inherits_2 6 rfl rfl)
theorem dX3_inherits_57 : decode cX3_inherits 57 = .ok (.istore 4, 2) := dk_54 4 (dk_at dksX3_inherits_2 9 rfl rfl)
theorem dX3_inherits_59 : decode cX3_inherits 59 = .ok (.iload 4, 2) := dk_21 4 (dk_at dksX3_inherits_2 11 rfl rfl)
theorem dX3_inherits_61 : decode cX3_inherits 61 = .ok (.ifCond .ge 12, 3) := dk_156 0 12 (dk_at dksX3_inherits_2 13 rfl rfl)
theorem dX3_inherits_64 : decode cX3_inherits 64 = .ok (.aload_n 0, 1) := dk_42 (dk_at dksX3_inherits_2 16 rfl rfl)
theorem dX3_inherits_65 : decode cX3_inherits 65 = .ok (.iload_n 1, 1) := dk_27 (dk_at dksX3_inherits_2 17 rfl rfl)
theorem dX3_inherits_66 : decode cX3_inherits 66 = .ok (.iconst 0, 1) := dk_3 (dk_at dksX3_inherits_2 18 rfl rfl)
theorem dX3_inherits_67 : decode cX3_inherits 67 = .ok (.iload_n 3, 1) := dk_29 (dk_at dksX3_inherits_2 19 rfl rfl)
theorem dX3_inherits_68 : decode cX3_inherits 68 = .ok (.invokevirtual 114, 3) := dk_182 0 114 (dk_at dksX3_inherits_2 20 rfl rfl)
theorem dX3_inherits_71 : decode cX3_inherits 71 = .ok (.iconst 1, 1) := dk_4 (dk_at dksX3_inherits_2 23 rfl rfl)
theorem dX3_inherits_72 : decode cX3_inherits 72 = .ok (.ireturn, 1) := dk_172 (dk_at dksX3_inherits_3 0 rfl rfl)
theorem dX3_inherits_73 : decode cX3_inherits 73 = .ok (.aload_n 0, 1) := dk_42 (dk_at dksX3_inherits_3 1 rfl rfl)
theorem dX3_inherits_74 : decode cX3_inherits 74 = .ok (.iload 4, 2) := dk_21 4 (dk_at dksX3_inherits_3 2 rfl rfl)
theorem dX3_inherits_76 : decode cX3_inherits 76 = .ok (.iconst 2, 1) := dk_5 (dk_at dksX3_inherits_3 4 rfl rfl)
theorem dX3_inherits_77 : decode cX3_inherits 77 = .ok (.bipush 9, 2) := dk_16 9 (dk_at dksX3_inherits_3 5 rfl rfl)
theorem dX3_inherits_79 : decode cX3_inherits 79 = .ok (.aload_n 0, 1) := dk_42 (dk_at dksX3_inherits_3 7 rfl rfl)
theorem dX3_inherits_80 : decode cX3_inherits 80 = .ok (.iload 4, 2) := dk_21 4 (dk_at dksX3_inherits_3 8 rfl rfl)
theorem dX3_inherits_82 : decode cX3_inherits 82 = .ok (.iconst 2, 1) := dk_5 (dk_at dksX3_inherits_3 10 rfl rfl)
theorem dX3_inherits_83 : decode cX3_inherits 83 = .ok (.invokevirtual 101, 3) := dk_182 0 101 (dk_at dksX3_inherits_3 11 rfl rfl)
theorem dX3_inherits_86 : decode cX3_inherits 86 = .ok (.aload_n 0, 1) := dk_42 (dk_at dksX3_inherits_3 14 rfl rfl)
theorem dX3_inherits_87 : decode cX3_inherits 87 = .ok (.iload_n 1, 1) := dk_27 (dk_at dksX3_inherits_3 15 rfl rfl)
theorem dX3_inherits_88 : decode cX3_inherits 88 = .ok (.iconst 2, 1) := dk_5 (dk_at dksX3_inherits_3 16 rfl rfl)
theorem dX3_inherits_89 : decode cX3_inherits 89 = .ok (.invokevirtual 101, 3) := dk_182 0 101 (dk_at dksX3_inherits_3 17 rfl rfl)
theorem dX3_inherits_92 : decode cX3_inherits 92 = .ok (.iadd, 1) := dk_96 (dk_at dksX3_inherits_3 20 rfl rfl)
theorem dX3_inherits_93 : decode cX3_inherits 93 = .ok (.invokestatic 118, 3) := dk_184 0 118 (dk_at dksX3_inherits_3 21 rfl rfl)
theorem dX3_inherits_96 : decode cX3_inherits 96 = .ok (.invokevirtual 114, 3) := dk_182 0 114 (dk_at dksX3_inherits_4 0 rfl rfl)
theorem dX3_inherits_99 : decode cX3_inherits 99 = .ok (.aload_n 0, 1) := dk_42 (dk_at dksX3_inherits_4 3 rfl rfl)
theorem dX3_inherits_100 : decode cX3_inherits 100 = .ok (.getfield 7, 3) := dk_180 0 7 (dk_at dksX3_inherits_4 4 rfl rfl)
theorem dX3_inherits_103 : decode cX3_inherits 103 = .ok (.iconst 4, 1) := dk_7 (dk_at dksX3_inherits_4 7 rfl rfl)
theorem dX3_inherits_104 : decode cX3_inherits 104 = .ok (.dup2, 1) := dk_92 (dk_at dksX3_inherits_4 8 rfl rfl)
theorem dX3_inherits_105 : decode cX3_inherits 105 = .ok (.iaload, 1) := dk_46 (dk_at dksX3_inherits_4 9 rfl rfl)
theorem dX3_inherits_106 : decode cX3_inherits 106 = .ok (.iconst 1, 1) := dk_4 (dk_at dksX3_inherits_4 10 rfl rfl)
theorem dX3_inherits_107 : decode cX3_inherits 107 = .ok (.iadd, 1) := dk_96 (dk_at dksX3_inherits_4 11 rfl rfl)
theorem dX3_inherits_108 : decode cX3_inherits 108 = .ok (.iastore, 1) := dk_79 (dk_at dksX3_inherits_4 12 rfl rfl)
theorem dX3_inherits_109 : decode cX3_inherits 109 = .ok (.aload_n 0, 1) := dk_42 (dk_at dksX3_inherits_4 13 rfl rfl)
theorem dX3_inherits_110 : decode cX3_inherits 110 = .ok (.iload_n 1, 1) := dk_27 (dk_at dksX3_inherits_4 14 rfl rfl)
theorem dX3_inherits_111 : decode cX3_inherits 111 = .ok (.invokevirtual 107, 3) := dk_182 0 107 (dk_at dksX3_inherits_4 15 rfl rfl)
theorem dX3_inherits_114 : decode cX3_inherits 114 = .ok (.iconst 1, 1) := dk_4 (dk_at dksX3_inherits_4 18 rfl rfl)
theorem dX3_inherits_115 : decode cX3_inherits 115 = .ok (.ireturn, 1) := dk_172 (dk_at dksX3_inherits_4 19 rfl rfl)
def dkwX3_firstLiving_1 : List UInt8 := [42, 29, 27, 182, 0, 95, 62, 167, 255, 232, 29, 172]
abbrev dktX3_firstLiving_1 : List UInt8 := dkwX3_firstLiving_1 ++ []
def dkwX3_firstLiving_0 : List UInt8 := [42, 27, 27, 182, 0, 95, 62, 29, 155, 0, 26, 42, 29, 182, 0, 85, 153, 0, 8, 29, 28, 160, 0, 13]
abbrev dktX3_firstLiving_0 : List UInt8 := dkwX3_firstLiving_0 ++ dktX3_firstLiving_1
theorem dksX3_firstLiving_0 : cX3_firstLiving.data.toList.drop 0 = dktX3_firstLiving_0 := by decide +kernel
theorem dksX3_firstLiving_1 : cX3_firstLiving.data.toList.drop 24 = dktX3_firstLiving_1 := dk_seg dksX3_firstLiving_0 24 rfl rfl
theorem dX3_firstLiving_0 : decode cX3_firstLiving 0 = .ok (.aload_n 0, 1) := dk_42 (dk_at dksX3_firstLiving_0 0 rfl rfl)
theorem dX3_firstLiving_1 : decode cX3_firstLiving 1 = .ok (.iload_n 1, 1) := dk_27 (dk_at dksX3_firstLiving_0 1 rfl rfl)
theorem dX3_firstLiving_2 : decode cX3_firstLiving 2 = .ok (.iload_n 1, 1) := dk_27 (dk_at dksX3_firstLiving_0 2 rfl rfl)
theorem dX3_firstLiving_3 : decode cX3_firstLiving 3 = .ok (.invokevirtual 95, 3) := dk_182 0 95 (dk_at dksX3_firstLiving_0 3 rfl rfl)
theorem dX3_firstLiving_6 : decode cX3_firstLiving 6 = .ok (.istore_n 3, 1) := dk_62 (dk_at dksX3_firstLiving_0 6 rfl rfl)
theorem dX3_firstLiving_7 : decode cX3_firstLiving 7 = .ok (.iload_n 3, 1) := dk_29 (dk_at dksX3_firstLiving_0 7 rfl rfl)
theorem dX3_firstLiving_8 : decode cX3_firstLiving 8 = .ok (.ifCond .lt 26, 3) := dk_155 0 26 (dk_at dksX3_firstLiving_0 8 rfl rfl)
theorem dX3_firstLiving_11 : decode cX3_firstLiving 11 = .ok (.aload_n 0, 1) := dk_42 (dk_at dksX3_firstLiving_0 11 rfl rfl)
theorem dX3_firstLiving_12 : decode cX3_firstLiving 12 = .ok (.iload_n 3, 1) := dk_29 (dk_at dksX3_firstLiving_0 12 rfl rfl)
theorem dX3_firstLiving_13 : decode cX3_firstLiving 13 = .ok (.invokevirtual 85, 3) := dk_182 0 85 (dk_at dksX3_firstLiving_0 13 rfl rfl)
theorem dX3_firstLiving_16 : decode cX3_firstLiving 16 = .ok (.ifCond .eq 8, 3) := dk_153 0 8 (dk_at dksX3_firstLiving_0 16 rfl rfl)
theorem dX3_firstLiving_19 : decode cX3_firstLiving 19 = .ok (.iload_n 3, 1) := dk_29 (dk_at dksX3_firstLiving_0 19 rfl rfl)
theorem dX3_firstLiving_20 : decode cX3_firstLiving 20 = .ok (.iload_n 2, 1) := dk_28 (dk_at dksX3_firstLiving_0 20 rfl rfl)
theorem dX3_firstLiving_21 : decode cX3_firstLiving 21 = .ok (.if_icmp .ne 13, 3) := dk_160 0 13 (dk_at dksX3_firstLiving_0 21 rfl rfl)
theorem dX3_firstLiving_24 : decode cX3_firstLiving 24 = .ok (.aload_n 0, 1) := dk_42 (dk_at dksX3_firstLiving_1 0 rfl rfl)
theorem dX3_firstLiving_25 : decode cX3_firstLiving 25 = .ok (.iload_n 3, 1) := dk_29 (dk_at dksX3_firstLiving_1 1 rfl rfl)
theorem dX3_firstLiving_26 : decode cX3_firstLiving 26 = .ok (.iload_n 1, 1) := dk_27 (dk_at dksX3_firstLiving_1 2 rfl rfl)
theorem dX3_firstLiving_27 : decode cX3_firstLiving 27 = .ok (.invokevirtual 95, 3) := dk_182 0 95 (dk_at dksX3_firstLiving_1 3 rfl rfl)
theorem dX3_firstLiving_30 : decode cX3_firstLiving 30 = .ok (.istore_n 3, 1) := dk_62 (dk_at dksX3_firstLiving_1 6 rfl rfl)
theorem dX3_firstLiving_31 : decode cX3_firstLiving 31 = .ok (.goto (-24), 3) := dk_167 255 232 (dk_at dksX3_firstLiving_1 7 rfl rfl)
theorem dX3_firstLiving_34 : decode cX3_firstLiving 34 = .ok (.iload_n 3, 1) := dk_29 (dk_at dksX3_firstLiving_1 10 rfl rfl)
theorem dX3_firstLiving_35 : decode cX3_firstLiving 35 = .ok (.ireturn, 1) := dk_172 (dk_at dksX3_firstLiving_1 11 rfl rfl)
def dkwX3_follower_2 : List UInt8 := [182, 0, 88, 54, 4, 167, 255, 220, 2, 172]
abbrev dktX3_follower_2 : List UInt8 := dkwX3_follower_2 ++ []
def dkwX3_follower_1 : List UInt8 := [21, 4, 182, 0, 88, 21, 4, 182, 0, 91, 54, 5, 21, 5, 155, 0, 6, 21, 5, 172, 42, 21, 4]
abbrev dktX3_follower_1 : List UInt8 := dkwX3_follower_1 ++ dktX3_follower_2
def dkwX3_follower_0 : List UInt8 := [42, 27, 27, 182, 0, 91, 62, 29, 155, 0, 5, 29, 172, 27, 54, 4, 21, 4, 28, 159, 0, 36, 42, 42]
abbrev dktX3_follower_0 : List UInt8 := dkwX3_follower_0 ++ dktX3_follower_1
theorem dksX3_follower_0 : cX3_follower.data.toList.drop 0 = dktX3_follower_0 := by decide +kernel
theorem dksX3_follower_1 : cX3_follower.data.toList.drop 24 = dktX3_follower_1 := dk_seg dksX3_follower_0 24 rfl rfl
theorem dksX3_follower_2 : cX3_follower.data.toList.drop 47 = dktX3_follower_2 := dk_seg dksX3_follower_1 23 rfl rfl
theorem dX3_follower_0 : decode cX3_follower 0 = .ok (.aload_n 0, 1) := dk_42 (dk_at dksX3_follower_0 0 rfl rfl)
theorem dX3_follower_1 : decode cX3_follower 1 = .ok (.iload_n 1, 1) := dk_27 (dk_at dksX3_follower_0 1 rfl rfl)
theorem dX3_follower_2 : decode cX3_follower 2 = .ok (.iload_n 1, 1) := dk_27 (dk_at dksX3_follower_0 2 rfl rfl)
theorem dX3_follower_3 : decode cX3_follower 3 = .ok (.invokevirtual 91, 3) := dk_182 0 91 (dk_at dksX3_follower_0 3 rfl rfl)
theorem dX3_follower_6 : decode cX3_follower 6 = .ok (.istore_n 3, 1) := dk_62 (dk_at dksX3_follower_0 6 rfl rfl)
theorem dX3_follower_7 : decode cX3_follower 7 = .ok (.iload_n 3, 1) := dk_29 (dk_at dksX3_follower_0 7 rfl rfl)
theorem dX3_follower_8 : decode cX3_follower 8 = .ok (.ifCond .lt 5, 3) := dk_155 0 5 (dk_at dksX3_follower_0 8 rfl rfl)
theorem dX3_follower_11 : decode cX3_follower 11 = .ok (.iload_n 3, 1) := dk_29 (dk_at dksX3_follower_0 11 rfl rfl)
theorem dX3_follower_12 : decode cX3_follower 12 = .ok (.ireturn, 1) := dk_172 (dk_at dksX3_follower_0 12 rfl rfl)
theorem dX3_follower_13 : decode cX3_follower 13 = .ok (.iload_n 1, 1) := dk_27 (dk_at dksX3_follower_0 13 rfl rfl)
theorem dX3_follower_14 : decode cX3_follower 14 = .ok (.istore 4, 2) := dk_54 4 (dk_at dksX3_follower_0 14 rfl rfl)
theorem dX3_follower_16 : decode cX3_follower 16 = .ok (.iload 4, 2) := dk_21 4 (dk_at dksX3_follower_0 16 rfl rfl)
theorem dX3_follower_18 : decode cX3_follower 18 = .ok (.iload_n 2, 1) := dk_28 (dk_at dksX3_follower_0 18 rfl rfl)
theorem dX3_follower_19 : decode cX3_follower 19 = .ok (.if_icmp .eq 36, 3) := dk_159 0 36 (dk_at dksX3_follower_0 19 rfl rfl)
theorem dX3_follower_22 : decode cX3_follower 22 = .ok (.aload_n 0, 1) := dk_42 (dk_at dksX3_follower_0 22 rfl rfl)
theorem dX3_follower_23 : decode cX3_follower 23 = .ok (.aload_n 0, 1) := dk_42 (dk_at dksX3_follower_0 23 rfl rfl)
theorem dX3_follower_24 : decode cX3_follower 24 = .ok (.iload 4, 2) := dk_21 4 (dk_at dksX3_follower_1 0 rfl rfl)
theorem dX3_follower_26 : decode cX3_follower 26 = .ok (.invokevirtual 88, 3) := dk_182 0 88 (dk_at dksX3_follower_1 2 rfl rfl)
theorem dX3_follower_29 : decode cX3_follower 29 = .ok (.iload 4, 2) := dk_21 4 (dk_at dksX3_follower_1 5 rfl rfl)
theorem dX3_follower_31 : decode cX3_follower 31 = .ok (.invokevirtual 91, 3) := dk_182 0 91 (dk_at dksX3_follower_1 7 rfl rfl)
theorem dX3_follower_34 : decode cX3_follower 34 = .ok (.istore 5, 2) := dk_54 5 (dk_at dksX3_follower_1 10 rfl rfl)
theorem dX3_follower_36 : decode cX3_follower 36 = .ok (.iload 5, 2) := dk_21 5 (dk_at dksX3_follower_1 12 rfl rfl)
theorem dX3_follower_38 : decode cX3_follower 38 = .ok (.ifCond .lt 6, 3) := dk_155 0 6 (dk_at dksX3_follower_1 14 rfl rfl)
theorem dX3_follower_41 : decode cX3_follower 41 = .ok (.iload 5, 2) := dk_21 5 (dk_at dksX3_follower_1 17 rfl rfl)
theorem dX3_follower_43 : decode cX3_follower 43 = .ok (.ireturn, 1) := dk_172 (dk_at dksX3_follower_1 19 rfl rfl)
theorem dX3_follower_44 : decode cX3_follower 44 = .ok (.aload_n 0, 1) := dk_42 (dk_at dksX3_follower_1 20 rfl rfl)
theorem dX3_follower_45 : decode cX3_follower 45 = .ok (.iload 4, 2) := dk_21 4 (dk_at dksX3_follower_1 21 rfl rfl)
theorem dX3_follower_47 : decode cX3_follower 47 = .ok (.invokevirtual 88, 3) := dk_182 0 88 (dk_at dksX3_follower_2 0 rfl rfl)
theorem dX3_follower_50 : decode cX3_follower 50 = .ok (.istore 4, 2) := dk_54 4 (dk_at dksX3_follower_2 3 rfl rfl)
theorem dX3_follower_52 : decode cX3_follower 52 = .ok (.goto (-36), 3) := dk_167 255 220 (dk_at dksX3_follower_2 5 rfl rfl)
theorem dX3_follower_55 : decode cX3_follower 55 = .ok (.iconst (-1), 1) := dk_2 (dk_at dksX3_follower_2 8 rfl rfl)
theorem dX3_follower_56 : decode cX3_follower 56 = .ok (.ireturn, 1) := dk_172 (dk_at dksX3_follower_2 9 rfl rfl)
def dkwX3_childBehind_1 : List UInt8 := [172, 132, 3, 1, 167, 255, 232, 2, 172]
abbrev dktX3_childBehind_1 : List UInt8 := dkwX3_childBehind_1 ++ []
def dkwX3_childBehind_0 : List UInt8 := [28, 4, 96, 62, 29, 42, 180, 0, 7, 3, 46, 162, 0, 20, 42, 29, 182, 0, 88, 27, 160, 0, 5, 29]
abbrev dktX3_childBehind_0 : List UInt8 := dkwX3_childBehind_0 ++ dktX3_childBehind_1
theorem dksX3_childBehind_0 : cX3_childBehind.data.toList.drop 0 = dktX3_childBehind_0 := by decide +kernel
theorem dksX3_childBehind_1 : cX3_childBehind.data.toList.drop 24 = dktX3_childBehind_1 := dk_seg dksX3_childBehind_0 24 rfl rfl
theorem dX3_childBehind_0 : decode cX3_childBehind 0 = .ok (.iload_n 2, 1) := dk_28 (dk_at dksX3_childBehind_0 0 rfl rfl)
theorem dX3_childBehind_1 : decode cX3_childBehind 1 = .ok (.iconst 1, 1) := dk_4 (dk_at dksX3_childBehind_0 1 rfl rfl)
theorem dX3_childBehind_2 : decode cX3_childBehind 2 = .ok (.iadd, 1) := dk_96 (dk_at dksX3_childBehind_0 2 rfl rfl)
theorem dX3_childBehind_3 : decode cX3_childBehind 3 = .ok (.istore_n 3, 1) := dk_62 (dk_at dksX3_childBehind_0 3 rfl rfl)
theorem dX3_childBehind_4 : decode cX3_childBehind 4 = .ok (.iload_n 3, 1) := dk_29 (dk_at dksX3_childBehind_0 4 rfl rfl)
theorem dX3_childBehind_5 : decode cX3_childBehind 5 = .ok (.aload_n 0, 1) := dk_42 (dk_at dksX3_childBehind_0 5 rfl rfl)
theorem dX3_childBehind_6 : decode cX3_childBehind 6 = .ok (.getfield 7, 3) := dk_180 0 7 (dk_at dksX3_childBehind_0 6 rfl rfl)
theorem dX3_childBehind_9 : decode cX3_childBehind 9 = .ok (.iconst 0, 1) := dk_3 (dk_at dksX3_childBehind_0 9 rfl rfl)
theorem dX3_childBehind_10 : decode cX3_childBehind 10 = .ok (.iaload, 1) := dk_46 (dk_at dksX3_childBehind_0 10 rfl rfl)
theorem dX3_childBehind_11 : decode cX3_childBehind 11 = .ok (.if_icmp .ge 20, 3) := dk_162 0 20 (dk_at dksX3_childBehind_0 11 rfl rfl)
theorem dX3_childBehind_14 : decode cX3_childBehind 14 = .ok (.aload_n 0, 1) := dk_42 (dk_at dksX3_childBehind_0 14 rfl rfl)
theorem dX3_childBehind_15 : decode cX3_childBehind 15 = .ok (.iload_n 3, 1) := dk_29 (dk_at dksX3_childBehind_0 15 rfl rfl)
theorem dX3_childBehind_16 : decode cX3_childBehind 16 = .ok (.invokevirtual 88, 3) := dk_182 0 88 (dk_at dksX3_childBehind_0 16 rfl rfl)
theorem dX3_childBehind_19 : decode cX3_childBehind 19 = .ok (.iload_n 1, 1) := dk_27 (dk_at dksX3_childBehind_0 19 rfl rfl)
theorem dX3_childBehind_20 : decode cX3_childBehind 20 = .ok (.if_icmp .ne 5, 3) := dk_160 0 5 (dk_at dksX3_childBehind_0 20 rfl rfl)
theorem dX3_childBehind_23 : decode cX3_childBehind 23 = .ok (.iload_n 3, 1) := dk_29 (dk_at dksX3_childBehind_0 23 rfl rfl)
theorem dX3_childBehind_24 : decode cX3_childBehind 24 = .ok (.ireturn, 1) := dk_172 (dk_at dksX3_childBehind_1 0 rfl rfl)
theorem dX3_childBehind_25 : decode cX3_childBehind 25 = .ok (.iinc 3 1, 3) := dk_132 3 1 (dk_at dksX3_childBehind_1 1 rfl rfl)
theorem dX3_childBehind_28 : decode cX3_childBehind 28 = .ok (.goto (-24), 3) := dk_167 255 232 (dk_at dksX3_childBehind_1 4 rfl rfl)
theorem dX3_childBehind_31 : decode cX3_childBehind 31 = .ok (.iconst (-1), 1) := dk_2 (dk_at dksX3_childBehind_1 7 rfl rfl)
theorem dX3_childBehind_32 : decode cX3_childBehind 32 = .ok (.ireturn, 1) := dk_172 (dk_at dksX3_childBehind_1 8 rfl rfl)
def dkwX3_parent_0 : List UInt8 := [42, 180, 0, 7, 16, 6, 5, 27, 104, 96, 3, 96, 46, 172]
abbrev dktX3_parent_0 : List UInt8 := dkwX3_parent_0 ++ []
theorem dksX3_parent_0 : cX3_parent.data.toList.drop 0 = dktX3_parent_0 := by decide +kernel
theorem dX3_parent_0 : decode cX3_parent 0 = .ok (.aload_n 0, 1) := dk_42 (dk_at dksX3_parent_0 0 rfl rfl)
theorem dX3_parent_1 : decode cX3_parent 1 = .ok (.getfield 7, 3) := dk_180 0 7 (dk_at dksX3_parent_0 1 rfl rfl)
theorem dX3_parent_4 : decode cX3_parent 4 = .ok (.bipush 6, 2) := dk_16 6 (dk_at dksX3_parent_0 4 rfl rfl)
theorem dX3_parent_6 : decode cX3_parent 6 = .ok (.iconst 2, 1) := dk_5 (dk_at dksX3_parent_0 6 rfl rfl)
theorem dX3_parent_7 : decode cX3_parent 7 = .ok (.iload_n 1, 1) := dk_27 (dk_at dksX3_parent_0 7 rfl rfl)
theorem dX3_parent_8 : decode cX3_parent 8 = .ok (.imul, 1) := dk_104 (dk_at dksX3_parent_0 8 rfl rfl)
theorem dX3_parent_9 : decode cX3_parent 9 = .ok (.iadd, 1) := dk_96 (dk_at dksX3_parent_0 9 rfl rfl)
theorem dX3_parent_10 : decode cX3_parent 10 = .ok (.iconst 0, 1) := dk_3 (dk_at dksX3_parent_0 10 rfl rfl)
theorem dX3_parent_11 : decode cX3_parent 11 = .ok (.iadd, 1) := dk_96 (dk_at dksX3_parent_0 11 rfl rfl)
theorem dX3_parent_12 : decode cX3_parent 12 = .ok (.iaload, 1) := dk_46 (dk_at dksX3_parent_0 12 rfl rfl)
theorem dX3_parent_13 : decode cX3_parent 13 = .ok (.ireturn, 1) := dk_172 (dk_at dksX3_parent_0 13 rfl rfl)
def dkwX3_heir_2 : List UInt8 := [167, 255, 223, 28, 172]
abbrev dktX3_heir_2 : List UInt8 := dkwX3_heir_2 ++ []
def dkwX3_heir_1 : List UInt8 := [182, 0, 85, 153, 0, 7, 29, 167, 0, 9, 42, 29, 27, 182, 0, 98, 61, 42, 29, 182, 0, 88, 62]
abbrev dktX3_heir_1 : List UInt8 := dkwX3_heir_1 ++ dktX3_heir_2
def dkwX3_heir_0 : List UInt8 := [42, 27, 27, 182, 0, 98, 61, 42, 27, 182, 0, 88, 62, 28, 156, 0, 35, 29, 155, 0, 31, 42, 29]
abbrev dktX3_heir_0 : List UInt8 := dkwX3_heir_0 ++ dktX3_heir_1
theorem dksX3_heir_0 : cX3_heir.data.toList.drop 0 = dktX3_heir_0 := by decide +kernel
theorem dksX3_heir_1 : cX3_heir.data.toList.drop 23 = dktX3_heir_1 := dk_seg dksX3_heir_0 23 rfl rfl
theorem dksX3_heir_2 : cX3_heir.data.toList.drop 46 = dktX3_heir_2 := dk_seg dksX3_heir_1 23 rfl rfl
theorem dX3_heir_0 : decode cX3_heir 0 = .ok (.aload_n 0, 1) := dk_42 (dk_at dksX3_heir_0 0 rfl rfl)
theorem dX3_heir_1 : decode cX3_heir 1 = .ok (.iload_n 1, 1) := dk_27 (dk_at dksX3_heir_0 1 rfl rfl)
theorem dX3_heir_2 : decode cX3_heir 2 = .ok (.iload_n 1, 1) := dk_27 (dk_at dksX3_heir_0 2 rfl rfl)
theorem dX3_heir_3 : decode cX3_heir 3 = .ok (.invokevirtual 98, 3) := dk_182 0 98 (dk_at dksX3_heir_0 3 rfl rfl)
theorem dX3_heir_6 : decode cX3_heir 6 = .ok (.istore_n 2, 1) := dk_61 (dk_at dksX3_heir_0 6 rfl rfl)
theorem dX3_heir_7 : decode cX3_heir 7 = .ok (.aload_n 0, 1) := dk_42 (dk_at dksX3_heir_0 7 rfl rfl)
theorem dX3_heir_8 : decode cX3_heir 8 = .ok (.iload_n 1, 1) := dk_27 (dk_at dksX3_heir_0 8 rfl rfl)
theorem dX3_heir_9 : decode cX3_heir 9 = .ok (.invokevirtual 88, 3) := dk_182 0 88 (dk_at dksX3_heir_0 9 rfl rfl)
theorem dX3_heir_12 : decode cX3_heir 12 = .ok (.istore_n 3, 1) := dk_62 (dk_at dksX3_heir_0 12 rfl rfl)
theorem dX3_heir_13 : decode cX3_heir 13 = .ok (.iload_n 2, 1) := dk_28 (dk_at dksX3_heir_0 13 rfl rfl)
theorem dX3_heir_14 : decode cX3_heir 14 = .ok (.ifCond .ge 35, 3) := dk_156 0 35 (dk_at dksX3_heir_0 14 rfl rfl)
theorem dX3_heir_17 : decode cX3_heir 17 = .ok (.iload_n 3, 1) := dk_29 (dk_at dksX3_heir_0 17 rfl rfl)
theorem dX3_heir_18 : decode cX3_heir 18 = .ok (.ifCond .lt 31, 3) := dk_155 0 31 (dk_at dksX3_heir_0 18 rfl rfl)
theorem dX3_heir_21 : decode cX3_heir 21 = .ok (.aload_n 0, 1) := dk_42 (dk_at dksX3_heir_0 21 rfl rfl)
theorem dX3_heir_22 : decode cX3_heir 22 = .ok (.iload_n 3, 1) := dk_29 (dk_at dksX3_heir_0 22 rfl rfl)
theorem dX3_heir_23 : decode cX3_heir 23 = .ok (.invokevirtual 85, 3) := dk_182 0 85 (dk_at dksX3_heir_1 0 rfl rfl)
theorem dX3_heir_26 : decode cX3_heir 26 = .ok (.ifCond .eq 7, 3) := dk_153 0 7 (dk_at dksX3_heir_1 3 rfl rfl)
theorem dX3_heir_29 : decode cX3_heir 29 = .ok (.iload_n 3, 1) := dk_29 (dk_at dksX3_heir_1 6 rfl rfl)
theorem dX3_heir_30 : decode cX3_heir 30 = .ok (.goto 9, 3) := dk_167 0 9 (dk_at dksX3_heir_1 7 rfl rfl)
theorem dX3_heir_33 : decode cX3_heir 33 = .ok (.aload_n 0, 1) := dk_42 (dk_at dksX3_heir_1 10 rfl rfl)
theorem dX3_heir_34 : decode cX3_heir 34 = .ok (.iload_n 3, 1) := dk_29 (dk_at dksX3_heir_1 11 rfl rfl)
theorem dX3_heir_35 : decode cX3_heir 35 = .ok (.iload_n 1, 1) := dk_27 (dk_at dksX3_heir_1 12 rfl rfl)
theorem dX3_heir_36 : decode cX3_heir 36 = .ok (.invokevirtual 98, 3) := dk_182 0 98 (dk_at dksX3_heir_1 13 rfl rfl)
theorem dX3_heir_39 : decode cX3_heir 39 = .ok (.istore_n 2, 1) := dk_61 (dk_at dksX3_heir_1 16 rfl rfl)
theorem dX3_heir_40 : decode cX3_heir 40 = .ok (.aload_n 0, 1) := dk_42 (dk_at dksX3_heir_1 17 rfl rfl)
theorem dX3_heir_41 : decode cX3_heir 41 = .ok (.iload_n 3, 1) := dk_29 (dk_at dksX3_heir_1 18 rfl rfl)
theorem dX3_heir_42 : decode cX3_heir 42 = .ok (.invokevirtual 88, 3) := dk_182 0 88 (dk_at dksX3_heir_1 19 rfl rfl)
theorem dX3_heir_45 : decode cX3_heir 45 = .ok (.istore_n 3, 1) := dk_62 (dk_at dksX3_heir_1 22 rfl rfl)
theorem dX3_heir_46 : decode cX3_heir 46 = .ok (.goto (-33), 3) := dk_167 255 223 (dk_at dksX3_heir_2 0 rfl rfl)
theorem dX3_heir_49 : decode cX3_heir 49 = .ok (.iload_n 2, 1) := dk_28 (dk_at dksX3_heir_2 3 rfl rfl)
theorem dX3_heir_50 : decode cX3_heir 50 = .ok (.ireturn, 1) := dk_172 (dk_at dksX3_heir_2 4 rfl rfl)
def dkwX3_ends_1 : List UInt8 := [3, 182, 0, 114, 177]
abbrev dktX3_ends_1 : List UInt8 := dkwX3_ends_1 ++ []
def dkwX3_ends_0 : List UInt8 := [42, 27, 3, 2, 182, 0, 114, 42, 27, 5, 3, 182, 0, 114, 42, 27, 6, 3, 182, 0, 114, 42, 27, 7]
abbrev dktX3_ends_0 : List UInt8 := dkwX3_ends_0 ++ dktX3_ends_1
theorem dksX3_ends_0 : cX3_ends.data.toList.drop 0 = dktX3_ends_0 := by decide +kernel
theorem dksX3_ends_1 : cX3_ends.data.toList.drop 24 = dktX3_ends_1 := dk_seg dksX3_ends_0 24 rfl rfl
theorem dX3_ends_0 : decode cX3_ends 0 = .ok (.aload_n 0, 1) := dk_42 (dk_at dksX3_ends_0 0 rfl rfl)
theorem dX3_ends_1 : decode cX3_ends 1 = .ok (.iload_n 1, 1) := dk_27 (dk_at dksX3_ends_0 1 rfl rfl)
theorem dX3_ends_2 : decode cX3_ends 2 = .ok (.iconst 0, 1) := dk_3 (dk_at dksX3_ends_0 2 rfl rfl)
theorem dX3_ends_3 : decode cX3_ends 3 = .ok (.iconst (-1), 1) := dk_2 (dk_at dksX3_ends_0 3 rfl rfl)
theorem dX3_ends_4 : decode cX3_ends 4 = .ok (.invokevirtual 114, 3) := dk_182 0 114 (dk_at dksX3_ends_0 4 rfl rfl)
theorem dX3_ends_7 : decode cX3_ends 7 = .ok (.aload_n 0, 1) := dk_42 (dk_at dksX3_ends_0 7 rfl rfl)
theorem dX3_ends_8 : decode cX3_ends 8 = .ok (.iload_n 1, 1) := dk_27 (dk_at dksX3_ends_0 8 rfl rfl)
theorem dX3_ends_9 : decode cX3_ends 9 = .ok (.iconst 2, 1) := dk_5 (dk_at dksX3_ends_0 9 rfl rfl)
theorem dX3_ends_10 : decode cX3_ends 10 = .ok (.iconst 0, 1) := dk_3 (dk_at dksX3_ends_0 10 rfl rfl)
theorem dX3_ends_11 : decode cX3_ends 11 = .ok (.invokevirtual 114, 3) := dk_182 0 114 (dk_at dksX3_ends_0 11 rfl rfl)
theorem dX3_ends_14 : decode cX3_ends 14 = .ok (.aload_n 0, 1) := dk_42 (dk_at dksX3_ends_0 14 rfl rfl)
theorem dX3_ends_15 : decode cX3_ends 15 = .ok (.iload_n 1, 1) := dk_27 (dk_at dksX3_ends_0 15 rfl rfl)
theorem dX3_ends_16 : decode cX3_ends 16 = .ok (.iconst 3, 1) := dk_6 (dk_at dksX3_ends_0 16 rfl rfl)
theorem dX3_ends_17 : decode cX3_ends 17 = .ok (.iconst 0, 1) := dk_3 (dk_at dksX3_ends_0 17 rfl rfl)
theorem dX3_ends_18 : decode cX3_ends 18 = .ok (.invokevirtual 114, 3) := dk_182 0 114 (dk_at dksX3_ends_0 18 rfl rfl)
theorem dX3_ends_21 : decode cX3_ends 21 = .ok (.aload_n 0, 1) := dk_42 (dk_at dksX3_ends_0 21 rfl rfl)
theorem dX3_ends_22 : decode cX3_ends 22 = .ok (.iload_n 1, 1) := dk_27 (dk_at dksX3_ends_0 22 rfl rfl)
theorem dX3_ends_23 : decode cX3_ends 23 = .ok (.iconst 4, 1) := dk_7 (dk_at dksX3_ends_0 23 rfl rfl)
theorem dX3_ends_24 : decode cX3_ends 24 = .ok (.iconst 0, 1) := dk_3 (dk_at dksX3_ends_1 0 rfl rfl)
theorem dX3_ends_25 : decode cX3_ends 25 = .ok (.invokevirtual 114, 3) := dk_182 0 114 (dk_at dksX3_ends_1 1 rfl rfl)
theorem dX3_ends_28 : decode cX3_ends 28 = .ok (.return_, 1) := dk_177 (dk_at dksX3_ends_1 4 rfl rfl)
def dkwX3_lays_0 : List UInt8 := [42, 180, 0, 7, 16, 38, 8, 27, 104, 96, 28, 96, 29, 79, 177]
abbrev dktX3_lays_0 : List UInt8 := dkwX3_lays_0 ++ []
theorem dksX3_lays_0 : cX3_lays.data.toList.drop 0 = dktX3_lays_0 := by decide +kernel
theorem dX3_lays_0 : decode cX3_lays 0 = .ok (.aload_n 0, 1) := dk_42 (dk_at dksX3_lays_0 0 rfl rfl)
theorem dX3_lays_1 : decode cX3_lays 1 = .ok (.getfield 7, 3) := dk_180 0 7 (dk_at dksX3_lays_0 1 rfl rfl)
theorem dX3_lays_4 : decode cX3_lays 4 = .ok (.bipush 38, 2) := dk_16 38 (dk_at dksX3_lays_0 4 rfl rfl)
theorem dX3_lays_6 : decode cX3_lays 6 = .ok (.iconst 5, 1) := dk_8 (dk_at dksX3_lays_0 6 rfl rfl)
theorem dX3_lays_7 : decode cX3_lays 7 = .ok (.iload_n 1, 1) := dk_27 (dk_at dksX3_lays_0 7 rfl rfl)
theorem dX3_lays_8 : decode cX3_lays 8 = .ok (.imul, 1) := dk_104 (dk_at dksX3_lays_0 8 rfl rfl)
theorem dX3_lays_9 : decode cX3_lays 9 = .ok (.iadd, 1) := dk_96 (dk_at dksX3_lays_0 9 rfl rfl)
theorem dX3_lays_10 : decode cX3_lays 10 = .ok (.iload_n 2, 1) := dk_28 (dk_at dksX3_lays_0 10 rfl rfl)
theorem dX3_lays_11 : decode cX3_lays 11 = .ok (.iadd, 1) := dk_96 (dk_at dksX3_lays_0 11 rfl rfl)
theorem dX3_lays_12 : decode cX3_lays 12 = .ok (.iload_n 3, 1) := dk_29 (dk_at dksX3_lays_0 12 rfl rfl)
theorem dX3_lays_13 : decode cX3_lays 13 = .ok (.iastore, 1) := dk_79 (dk_at dksX3_lays_0 13 rfl rfl)
theorem dX3_lays_14 : decode cX3_lays 14 = .ok (.return_, 1) := dk_177 (dk_at dksX3_lays_0 14 rfl rfl)
def dkwX3_held_1 : List UInt8 := [4, 182, 0, 101, 28, 160, 0, 5, 29, 172, 132, 3, 1, 167, 255, 221, 2, 172]
abbrev dktX3_held_1 : List UInt8 := dkwX3_held_1 ++ []
def dkwX3_held_0 : List UInt8 := [3, 62, 29, 42, 180, 0, 7, 4, 46, 162, 0, 31, 42, 29, 3, 182, 0, 101, 27, 160, 0, 15, 42, 29]
abbrev dktX3_held_0 : List UInt8 := dkwX3_held_0 ++ dktX3_held_1
theorem dksX3_held_0 : cX3_held.data.toList.drop 0 = dktX3_held_0 := by decide +kernel
theorem dksX3_held_1 : cX3_held.data.toList.drop 24 = dktX3_held_1 := dk_seg dksX3_held_0 24 rfl rfl
theorem dX3_held_0 : decode cX3_held 0 = .ok (.iconst 0, 1) := dk_3 (dk_at dksX3_held_0 0 rfl rfl)
theorem dX3_held_1 : decode cX3_held 1 = .ok (.istore_n 3, 1) := dk_62 (dk_at dksX3_held_0 1 rfl rfl)
theorem dX3_held_2 : decode cX3_held 2 = .ok (.iload_n 3, 1) := dk_29 (dk_at dksX3_held_0 2 rfl rfl)
theorem dX3_held_3 : decode cX3_held 3 = .ok (.aload_n 0, 1) := dk_42 (dk_at dksX3_held_0 3 rfl rfl)
theorem dX3_held_4 : decode cX3_held 4 = .ok (.getfield 7, 3) := dk_180 0 7 (dk_at dksX3_held_0 4 rfl rfl)
theorem dX3_held_7 : decode cX3_held 7 = .ok (.iconst 1, 1) := dk_4 (dk_at dksX3_held_0 7 rfl rfl)
theorem dX3_held_8 : decode cX3_held 8 = .ok (.iaload, 1) := dk_46 (dk_at dksX3_held_0 8 rfl rfl)
theorem dX3_held_9 : decode cX3_held 9 = .ok (.if_icmp .ge 31, 3) := dk_162 0 31 (dk_at dksX3_held_0 9 rfl rfl)
theorem dX3_held_12 : decode cX3_held 12 = .ok (.aload_n 0, 1) := dk_42 (dk_at dksX3_held_0 12 rfl rfl)
theorem dX3_held_13 : decode cX3_held 13 = .ok (.iload_n 3, 1) := dk_29 (dk_at dksX3_held_0 13 rfl rfl)
theorem dX3_held_14 : decode cX3_held 14 = .ok (.iconst 0, 1) := dk_3 (dk_at dksX3_held_0 14 rfl rfl)
theorem dX3_held_15 : decode cX3_held 15 = .ok (.invokevirtual 101, 3) := dk_182 0 101 (dk_at dksX3_held_0 15 rfl rfl)
theorem dX3_held_18 : decode cX3_held 18 = .ok (.iload_n 1, 1) := dk_27 (dk_at dksX3_held_0 18 rfl rfl)
theorem dX3_held_19 : decode cX3_held 19 = .ok (.if_icmp .ne 15, 3) := dk_160 0 15 (dk_at dksX3_held_0 19 rfl rfl)
theorem dX3_held_22 : decode cX3_held 22 = .ok (.aload_n 0, 1) := dk_42 (dk_at dksX3_held_0 22 rfl rfl)
theorem dX3_held_23 : decode cX3_held 23 = .ok (.iload_n 3, 1) := dk_29 (dk_at dksX3_held_0 23 rfl rfl)
theorem dX3_held_24 : decode cX3_held 24 = .ok (.iconst 1, 1) := dk_4 (dk_at dksX3_held_1 0 rfl rfl)
theorem dX3_held_25 : decode cX3_held 25 = .ok (.invokevirtual 101, 3) := dk_182 0 101 (dk_at dksX3_held_1 1 rfl rfl)
theorem dX3_held_28 : decode cX3_held 28 = .ok (.iload_n 2, 1) := dk_28 (dk_at dksX3_held_1 4 rfl rfl)
theorem dX3_held_29 : decode cX3_held 29 = .ok (.if_icmp .ne 5, 3) := dk_160 0 5 (dk_at dksX3_held_1 5 rfl rfl)
theorem dX3_held_32 : decode cX3_held 32 = .ok (.iload_n 3, 1) := dk_29 (dk_at dksX3_held_1 8 rfl rfl)
theorem dX3_held_33 : decode cX3_held 33 = .ok (.ireturn, 1) := dk_172 (dk_at dksX3_held_1 9 rfl rfl)
theorem dX3_held_34 : decode cX3_held 34 = .ok (.iinc 3 1, 3) := dk_132 3 1 (dk_at dksX3_held_1 10 rfl rfl)
theorem dX3_held_37 : decode cX3_held 37 = .ok (.goto (-35), 3) := dk_167 255 221 (dk_at dksX3_held_1 13 rfl rfl)
theorem dX3_held_40 : decode cX3_held 40 = .ok (.iconst (-1), 1) := dk_2 (dk_at dksX3_held_1 16 rfl rfl)
theorem dX3_held_41 : decode cX3_held 41 = .ok (.ireturn, 1) := dk_172 (dk_at dksX3_held_1 17 rfl rfl)
def dkwX3_least_0 : List UInt8 := [26, 27, 162, 0, 7, 26, 167, 0, 4, 27, 172]
abbrev dktX3_least_0 : List UInt8 := dkwX3_least_0 ++ []
theorem dksX3_least_0 : cX3_least.data.toList.drop 0 = dktX3_least_0 := by decide +kernel
theorem dX3_least_0 : decode cX3_least 0 = .ok (.iload_n 0, 1) := dk_26 (dk_at dksX3_least_0 0 rfl rfl)
theorem dX3_least_1 : decode cX3_least 1 = .ok (.iload_n 1, 1) := dk_27 (dk_at dksX3_least_0 1 rfl rfl)
theorem dX3_least_2 : decode cX3_least 2 = .ok (.if_icmp .ge 7, 3) := dk_162 0 7 (dk_at dksX3_least_0 2 rfl rfl)
theorem dX3_least_5 : decode cX3_least 5 = .ok (.iload_n 0, 1) := dk_26 (dk_at dksX3_least_0 5 rfl rfl)
theorem dX3_least_6 : decode cX3_least 6 = .ok (.goto 4, 3) := dk_167 0 4 (dk_at dksX3_least_0 6 rfl rfl)
theorem dX3_least_9 : decode cX3_least 9 = .ok (.iload_n 1, 1) := dk_27 (dk_at dksX3_least_0 9 rfl rfl)
theorem dX3_least_10 : decode cX3_least 10 = .ok (.ireturn, 1) := dk_172 (dk_at dksX3_least_0 10 rfl rfl)
def dkwX3_peopleCount_0 : List UInt8 := [42, 3, 181, 0, 36, 42, 180, 0, 7, 3, 46, 172]
abbrev dktX3_peopleCount_0 : List UInt8 := dkwX3_peopleCount_0 ++ []
theorem dksX3_peopleCount_0 : cX3_peopleCount.data.toList.drop 0 = dktX3_peopleCount_0 := by decide +kernel
theorem dX3_peopleCount_0 : decode cX3_peopleCount 0 = .ok (.aload_n 0, 1) := dk_42 (dk_at dksX3_peopleCount_0 0 rfl rfl)
theorem dX3_peopleCount_1 : decode cX3_peopleCount 1 = .ok (.iconst 0, 1) := dk_3 (dk_at dksX3_peopleCount_0 1 rfl rfl)
theorem dX3_peopleCount_2 : decode cX3_peopleCount 2 = .ok (.putfield 36, 3) := dk_181 0 36 (dk_at dksX3_peopleCount_0 2 rfl rfl)
theorem dX3_peopleCount_5 : decode cX3_peopleCount 5 = .ok (.aload_n 0, 1) := dk_42 (dk_at dksX3_peopleCount_0 5 rfl rfl)
theorem dX3_peopleCount_6 : decode cX3_peopleCount 6 = .ok (.getfield 7, 3) := dk_180 0 7 (dk_at dksX3_peopleCount_0 6 rfl rfl)
theorem dX3_peopleCount_9 : decode cX3_peopleCount 9 = .ok (.iconst 0, 1) := dk_3 (dk_at dksX3_peopleCount_0 9 rfl rfl)
theorem dX3_peopleCount_10 : decode cX3_peopleCount 10 = .ok (.iaload, 1) := dk_46 (dk_at dksX3_peopleCount_0 10 rfl rfl)
theorem dX3_peopleCount_11 : decode cX3_peopleCount 11 = .ok (.ireturn, 1) := dk_172 (dk_at dksX3_peopleCount_0 11 rfl rfl)
def dkwX3_livingCount_0 : List UInt8 := [42, 3, 181, 0, 36, 42, 182, 0, 124, 172]
abbrev dktX3_livingCount_0 : List UInt8 := dkwX3_livingCount_0 ++ []
theorem dksX3_livingCount_0 : cX3_livingCount.data.toList.drop 0 = dktX3_livingCount_0 := by decide +kernel
theorem dX3_livingCount_0 : decode cX3_livingCount 0 = .ok (.aload_n 0, 1) := dk_42 (dk_at dksX3_livingCount_0 0 rfl rfl)
theorem dX3_livingCount_1 : decode cX3_livingCount 1 = .ok (.iconst 0, 1) := dk_3 (dk_at dksX3_livingCount_0 1 rfl rfl)
theorem dX3_livingCount_2 : decode cX3_livingCount 2 = .ok (.putfield 36, 3) := dk_181 0 36 (dk_at dksX3_livingCount_0 2 rfl rfl)
theorem dX3_livingCount_5 : decode cX3_livingCount 5 = .ok (.aload_n 0, 1) := dk_42 (dk_at dksX3_livingCount_0 5 rfl rfl)
theorem dX3_livingCount_6 : decode cX3_livingCount 6 = .ok (.invokevirtual 124, 3) := dk_182 0 124 (dk_at dksX3_livingCount_0 6 rfl rfl)
theorem dX3_livingCount_9 : decode cX3_livingCount 9 = .ok (.ireturn, 1) := dk_172 (dk_at dksX3_livingCount_0 9 rfl rfl)
def dkwX3_living_1 : List UInt8 := [167, 0, 4, 3, 96, 60, 132, 2, 1, 167, 255, 227, 27, 172]
abbrev dktX3_living_1 : List UInt8 := dkwX3_living_1 ++ []
def dkwX3_living_0 : List UInt8 := [3, 60, 3, 61, 28, 42, 180, 0, 7, 3, 46, 162, 0, 25, 27, 42, 28, 182, 0, 85, 153, 0, 7, 4]
abbrev dktX3_living_0 : List UInt8 := dkwX3_living_0 ++ dktX3_living_1
theorem dksX3_living_0 : cX3_living.data.toList.drop 0 = dktX3_living_0 := by decide +kernel
theorem dksX3_living_1 : cX3_living.data.toList.drop 24 = dktX3_living_1 := dk_seg dksX3_living_0 24 rfl rfl
theorem dX3_living_0 : decode cX3_living 0 = .ok (.iconst 0, 1) := dk_3 (dk_at dksX3_living_0 0 rfl rfl)
theorem dX3_living_1 : decode cX3_living 1 = .ok (.istore_n 1, 1) := dk_60 (dk_at dksX3_living_0 1 rfl rfl)
theorem dX3_living_2 : decode cX3_living 2 = .ok (.iconst 0, 1) := dk_3 (dk_at dksX3_living_0 2 rfl rfl)
theorem dX3_living_3 : decode cX3_living 3 = .ok (.istore_n 2, 1) := dk_61 (dk_at dksX3_living_0 3 rfl rfl)
theorem dX3_living_4 : decode cX3_living 4 = .ok (.iload_n 2, 1) := dk_28 (dk_at dksX3_living_0 4 rfl rfl)
theorem dX3_living_5 : decode cX3_living 5 = .ok (.aload_n 0, 1) := dk_42 (dk_at dksX3_living_0 5 rfl rfl)
theorem dX3_living_6 : decode cX3_living 6 = .ok (.getfield 7, 3) := dk_180 0 7 (dk_at dksX3_living_0 6 rfl rfl)
theorem dX3_living_9 : decode cX3_living 9 = .ok (.iconst 0, 1) := dk_3 (dk_at dksX3_living_0 9 rfl rfl)
theorem dX3_living_10 : decode cX3_living 10 = .ok (.iaload, 1) := dk_46 (dk_at dksX3_living_0 10 rfl rfl)
theorem dX3_living_11 : decode cX3_living 11 = .ok (.if_icmp .ge 25, 3) := dk_162 0 25 (dk_at dksX3_living_0 11 rfl rfl)
theorem dX3_living_14 : decode cX3_living 14 = .ok (.iload_n 1, 1) := dk_27 (dk_at dksX3_living_0 14 rfl rfl)
theorem dX3_living_15 : decode cX3_living 15 = .ok (.aload_n 0, 1) := dk_42 (dk_at dksX3_living_0 15 rfl rfl)
theorem dX3_living_16 : decode cX3_living 16 = .ok (.iload_n 2, 1) := dk_28 (dk_at dksX3_living_0 16 rfl rfl)
theorem dX3_living_17 : decode cX3_living 17 = .ok (.invokevirtual 85, 3) := dk_182 0 85 (dk_at dksX3_living_0 17 rfl rfl)
theorem dX3_living_20 : decode cX3_living 20 = .ok (.ifCond .eq 7, 3) := dk_153 0 7 (dk_at dksX3_living_0 20 rfl rfl)
theorem dX3_living_23 : decode cX3_living 23 = .ok (.iconst 1, 1) := dk_4 (dk_at dksX3_living_0 23 rfl rfl)
theorem dX3_living_24 : decode cX3_living 24 = .ok (.goto 4, 3) := dk_167 0 4 (dk_at dksX3_living_1 0 rfl rfl)
theorem dX3_living_27 : decode cX3_living 27 = .ok (.iconst 0, 1) := dk_3 (dk_at dksX3_living_1 3 rfl rfl)
theorem dX3_living_28 : decode cX3_living 28 = .ok (.iadd, 1) := dk_96 (dk_at dksX3_living_1 4 rfl rfl)
theorem dX3_living_29 : decode cX3_living 29 = .ok (.istore_n 1, 1) := dk_60 (dk_at dksX3_living_1 5 rfl rfl)
theorem dX3_living_30 : decode cX3_living 30 = .ok (.iinc 2 1, 3) := dk_132 2 1 (dk_at dksX3_living_1 6 rfl rfl)
theorem dX3_living_33 : decode cX3_living 33 = .ok (.goto (-29), 3) := dk_167 255 227 (dk_at dksX3_living_1 9 rfl rfl)
theorem dX3_living_36 : decode cX3_living 36 = .ok (.iload_n 1, 1) := dk_27 (dk_at dksX3_living_1 12 rfl rfl)
theorem dX3_living_37 : decode cX3_living 37 = .ok (.ireturn, 1) := dk_172 (dk_at dksX3_living_1 13 rfl rfl)
def dkwX3_isAlive_0 : List UInt8 := [42, 27, 182, 0, 128, 154, 0, 15, 42, 27, 182, 0, 85, 153, 0, 7, 4, 167, 0, 4, 3, 172]
abbrev dktX3_isAlive_0 : List UInt8 := dkwX3_isAlive_0 ++ []
theorem dksX3_isAlive_0 : cX3_isAlive.data.toList.drop 0 = dktX3_isAlive_0 := by decide +kernel
theorem dX3_isAlive_0 : decode cX3_isAlive 0 = .ok (.aload_n 0, 1) := dk_42 (dk_at dksX3_isAlive_0 0 rfl rfl)
theorem dX3_isAlive_1 : decode cX3_isAlive 1 = .ok (.iload_n 1, 1) := dk_27 (dk_at dksX3_isAlive_0 1 rfl rfl)
theorem dX3_isAlive_2 : decode cX3_isAlive 2 = .ok (.invokevirtual 128, 3) := dk_182 0 128 (dk_at dksX3_isAlive_0 2 rfl rfl)
theorem dX3_isAlive_5 : decode cX3_isAlive 5 = .ok (.ifCond .ne 15, 3) := dk_154 0 15 (dk_at dksX3_isAlive_0 5 rfl rfl)
theorem dX3_isAlive_8 : decode cX3_isAlive 8 = .ok (.aload_n 0, 1) := dk_42 (dk_at dksX3_isAlive_0 8 rfl rfl)
theorem dX3_isAlive_9 : decode cX3_isAlive 9 = .ok (.iload_n 1, 1) := dk_27 (dk_at dksX3_isAlive_0 9 rfl rfl)
theorem dX3_isAlive_10 : decode cX3_isAlive 10 = .ok (.invokevirtual 85, 3) := dk_182 0 85 (dk_at dksX3_isAlive_0 10 rfl rfl)
theorem dX3_isAlive_13 : decode cX3_isAlive 13 = .ok (.ifCond .eq 7, 3) := dk_153 0 7 (dk_at dksX3_isAlive_0 13 rfl rfl)
theorem dX3_isAlive_16 : decode cX3_isAlive 16 = .ok (.iconst 1, 1) := dk_4 (dk_at dksX3_isAlive_0 16 rfl rfl)
theorem dX3_isAlive_17 : decode cX3_isAlive 17 = .ok (.goto 4, 3) := dk_167 0 4 (dk_at dksX3_isAlive_0 17 rfl rfl)
theorem dX3_isAlive_20 : decode cX3_isAlive 20 = .ok (.iconst 0, 1) := dk_3 (dk_at dksX3_isAlive_0 20 rfl rfl)
theorem dX3_isAlive_21 : decode cX3_isAlive 21 = .ok (.ireturn, 1) := dk_172 (dk_at dksX3_isAlive_0 21 rfl rfl)
def dkwX3_isNobody_0 : List UInt8 := [42, 42, 27, 182, 0, 66, 153, 0, 7, 3, 167, 0, 4, 4, 182, 0, 82, 172]
abbrev dktX3_isNobody_0 : List UInt8 := dkwX3_isNobody_0 ++ []
theorem dksX3_isNobody_0 : cX3_isNobody.data.toList.drop 0 = dktX3_isNobody_0 := by decide +kernel
theorem dX3_isNobody_0 : decode cX3_isNobody 0 = .ok (.aload_n 0, 1) := dk_42 (dk_at dksX3_isNobody_0 0 rfl rfl)
theorem dX3_isNobody_1 : decode cX3_isNobody 1 = .ok (.aload_n 0, 1) := dk_42 (dk_at dksX3_isNobody_0 1 rfl rfl)
theorem dX3_isNobody_2 : decode cX3_isNobody 2 = .ok (.iload_n 1, 1) := dk_27 (dk_at dksX3_isNobody_0 2 rfl rfl)
theorem dX3_isNobody_3 : decode cX3_isNobody 3 = .ok (.invokevirtual 66, 3) := dk_182 0 66 (dk_at dksX3_isNobody_0 3 rfl rfl)
theorem dX3_isNobody_6 : decode cX3_isNobody 6 = .ok (.ifCond .eq 7, 3) := dk_153 0 7 (dk_at dksX3_isNobody_0 6 rfl rfl)
theorem dX3_isNobody_9 : decode cX3_isNobody 9 = .ok (.iconst 0, 1) := dk_3 (dk_at dksX3_isNobody_0 9 rfl rfl)
theorem dX3_isNobody_10 : decode cX3_isNobody 10 = .ok (.goto 4, 3) := dk_167 0 4 (dk_at dksX3_isNobody_0 10 rfl rfl)
theorem dX3_isNobody_13 : decode cX3_isNobody 13 = .ok (.iconst 1, 1) := dk_4 (dk_at dksX3_isNobody_0 13 rfl rfl)
theorem dX3_isNobody_14 : decode cX3_isNobody 14 = .ok (.invokevirtual 82, 3) := dk_182 0 82 (dk_at dksX3_isNobody_0 14 rfl rfl)
theorem dX3_isNobody_17 : decode cX3_isNobody 17 = .ok (.ireturn, 1) := dk_172 (dk_at dksX3_isNobody_0 17 rfl rfl)
def dkwX3_isFounder_0 : List UInt8 := [42, 27, 182, 0, 128, 154, 0, 15, 42, 27, 182, 0, 88, 156, 0, 7, 4, 167, 0, 4, 3, 172]
abbrev dktX3_isFounder_0 : List UInt8 := dkwX3_isFounder_0 ++ []
theorem dksX3_isFounder_0 : cX3_isFounder.data.toList.drop 0 = dktX3_isFounder_0 := by decide +kernel
theorem dX3_isFounder_0 : decode cX3_isFounder 0 = .ok (.aload_n 0, 1) := dk_42 (dk_at dksX3_isFounder_0 0 rfl rfl)
theorem dX3_isFounder_1 : decode cX3_isFounder 1 = .ok (.iload_n 1, 1) := dk_27 (dk_at dksX3_isFounder_0 1 rfl rfl)
theorem dX3_isFounder_2 : decode cX3_isFounder 2 = .ok (.invokevirtual 128, 3) := dk_182 0 128 (dk_at dksX3_isFounder_0 2 rfl rfl)
theorem dX3_isFounder_5 : decode cX3_isFounder 5 = .ok (.ifCond .ne 15, 3) := dk_154 0 15 (dk_at dksX3_isFounder_0 5 rfl rfl)
theorem dX3_isFounder_8 : decode cX3_isFounder 8 = .ok (.aload_n 0, 1) := dk_42 (dk_at dksX3_isFounder_0 8 rfl rfl)
theorem dX3_isFounder_9 : decode cX3_isFounder 9 = .ok (.iload_n 1, 1) := dk_27 (dk_at dksX3_isFounder_0 9 rfl rfl)
theorem dX3_isFounder_10 : decode cX3_isFounder 10 = .ok (.invokevirtual 88, 3) := dk_182 0 88 (dk_at dksX3_isFounder_0 10 rfl rfl)
theorem dX3_isFounder_13 : decode cX3_isFounder 13 = .ok (.ifCond .ge 7, 3) := dk_156 0 7 (dk_at dksX3_isFounder_0 13 rfl rfl)
theorem dX3_isFounder_16 : decode cX3_isFounder 16 = .ok (.iconst 1, 1) := dk_4 (dk_at dksX3_isFounder_0 16 rfl rfl)
theorem dX3_isFounder_17 : decode cX3_isFounder 17 = .ok (.goto 4, 3) := dk_167 0 4 (dk_at dksX3_isFounder_0 17 rfl rfl)
theorem dX3_isFounder_20 : decode cX3_isFounder 20 = .ok (.iconst 0, 1) := dk_3 (dk_at dksX3_isFounder_0 20 rfl rfl)
theorem dX3_isFounder_21 : decode cX3_isFounder 21 = .ok (.ireturn, 1) := dk_172 (dk_at dksX3_isFounder_0 21 rfl rfl)
def dkwX3_parentOf_1 : List UInt8 := [167, 0, 4, 3, 182, 0, 82, 153, 0, 7, 3, 167, 0, 8, 42, 27, 182, 0, 88, 172]
abbrev dktX3_parentOf_1 : List UInt8 := dkwX3_parentOf_1 ++ []
def dkwX3_parentOf_0 : List UInt8 := [42, 42, 27, 182, 0, 66, 154, 0, 7, 4, 167, 0, 16, 42, 27, 182, 0, 88, 156, 0, 7, 5]
abbrev dktX3_parentOf_0 : List UInt8 := dkwX3_parentOf_0 ++ dktX3_parentOf_1
theorem dksX3_parentOf_0 : cX3_parentOf.data.toList.drop 0 = dktX3_parentOf_0 := by decide +kernel
theorem dksX3_parentOf_1 : cX3_parentOf.data.toList.drop 22 = dktX3_parentOf_1 := dk_seg dksX3_parentOf_0 22 rfl rfl
theorem dX3_parentOf_0 : decode cX3_parentOf 0 = .ok (.aload_n 0, 1) := dk_42 (dk_at dksX3_parentOf_0 0 rfl rfl)
theorem dX3_parentOf_1 : decode cX3_parentOf 1 = .ok (.aload_n 0, 1) := dk_42 (dk_at dksX3_parentOf_0 1 rfl rfl)
theorem dX3_parentOf_2 : decode cX3_parentOf 2 = .ok (.iload_n 1, 1) := dk_27 (dk_at dksX3_parentOf_0 2 rfl rfl)
theorem dX3_parentOf_3 : decode cX3_parentOf 3 = .ok (.invokevirtual 66, 3) := dk_182 0 66 (dk_at dksX3_parentOf_0 3 rfl rfl)
theorem dX3_parentOf_6 : decode cX3_parentOf 6 = .ok (.ifCond .ne 7, 3) := dk_154 0 7 (dk_at dksX3_parentOf_0 6 rfl rfl)
theorem dX3_parentOf_9 : decode cX3_parentOf 9 = .ok (.iconst 1, 1) := dk_4 (dk_at dksX3_parentOf_0 9 rfl rfl)
theorem dX3_parentOf_10 : decode cX3_parentOf 10 = .ok (.goto 16, 3) := dk_167 0 16 (dk_at dksX3_parentOf_0 10 rfl rfl)
theorem dX3_parentOf_13 : decode cX3_parentOf 13 = .ok (.aload_n 0, 1) := dk_42 (dk_at dksX3_parentOf_0 13 rfl rfl)
theorem dX3_parentOf_14 : decode cX3_parentOf 14 = .ok (.iload_n 1, 1) := dk_27 (dk_at dksX3_parentOf_0 14 rfl rfl)
theorem dX3_parentOf_15 : decode cX3_parentOf 15 = .ok (.invokevirtual 88, 3) := dk_182 0 88 (dk_at dksX3_parentOf_0 15 rfl rfl)
theorem dX3_parentOf_18 : decode cX3_parentOf 18 = .ok (.ifCond .ge 7, 3) := dk_156 0 7 (dk_at dksX3_parentOf_0 18 rfl rfl)
theorem dX3_parentOf_21 : decode cX3_parentOf 21 = .ok (.iconst 2, 1) := dk_5 (dk_at dksX3_parentOf_0 21 rfl rfl)
theorem dX3_parentOf_22 : decode cX3_parentOf 22 = .ok (.goto 4, 3) := dk_167 0 4 (dk_at dksX3_parentOf_1 0 rfl rfl)
theorem dX3_parentOf_25 : decode cX3_parentOf 25 = .ok (.iconst 0, 1) := dk_3 (dk_at dksX3_parentOf_1 3 rfl rfl)
theorem dX3_parentOf_26 : decode cX3_parentOf 26 = .ok (.invokevirtual 82, 3) := dk_182 0 82 (dk_at dksX3_parentOf_1 4 rfl rfl)
theorem dX3_parentOf_29 : decode cX3_parentOf 29 = .ok (.ifCond .eq 7, 3) := dk_153 0 7 (dk_at dksX3_parentOf_1 7 rfl rfl)
theorem dX3_parentOf_32 : decode cX3_parentOf 32 = .ok (.iconst 0, 1) := dk_3 (dk_at dksX3_parentOf_1 10 rfl rfl)
theorem dX3_parentOf_33 : decode cX3_parentOf 33 = .ok (.goto 8, 3) := dk_167 0 8 (dk_at dksX3_parentOf_1 11 rfl rfl)
theorem dX3_parentOf_36 : decode cX3_parentOf 36 = .ok (.aload_n 0, 1) := dk_42 (dk_at dksX3_parentOf_1 14 rfl rfl)
theorem dX3_parentOf_37 : decode cX3_parentOf 37 = .ok (.iload_n 1, 1) := dk_27 (dk_at dksX3_parentOf_1 15 rfl rfl)
theorem dX3_parentOf_38 : decode cX3_parentOf 38 = .ok (.invokevirtual 88, 3) := dk_182 0 88 (dk_at dksX3_parentOf_1 16 rfl rfl)
theorem dX3_parentOf_41 : decode cX3_parentOf 41 = .ok (.ireturn, 1) := dk_172 (dk_at dksX3_parentOf_1 19 rfl rfl)
def dkwX3_childCount_2 : List UInt8 := [172]
abbrev dktX3_childCount_2 : List UInt8 := dkwX3_childCount_2 ++ []
def dkwX3_childCount_1 : List UInt8 := [28, 42, 29, 182, 0, 88, 27, 160, 0, 7, 4, 167, 0, 4, 3, 96, 61, 132, 3, 1, 167, 255, 226, 28]
abbrev dktX3_childCount_1 : List UInt8 := dkwX3_childCount_1 ++ dktX3_childCount_2
def dkwX3_childCount_0 : List UInt8 := [42, 27, 182, 0, 128, 153, 0, 5, 3, 172, 3, 61, 3, 62, 29, 42, 180, 0, 7, 3, 46, 162, 0, 26]
abbrev dktX3_childCount_0 : List UInt8 := dkwX3_childCount_0 ++ dktX3_childCount_1
theorem dksX3_childCount_0 : cX3_childCount.data.toList.drop 0 = dktX3_childCount_0 := by decide +kernel
theorem dksX3_childCount_1 : cX3_childCount.data.toList.drop 24 = dktX3_childCount_1 := dk_seg dksX3_childCount_0 24 rfl rfl
theorem dksX3_childCount_2 : cX3_childCount.data.toList.drop 48 = dktX3_childCount_2 := dk_seg dksX3_childCount_1 24 rfl rfl
theorem dX3_childCount_0 : decode cX3_childCount 0 = .ok (.aload_n 0, 1) := dk_42 (dk_at dksX3_childCount_0 0 rfl rfl)
theorem dX3_childCount_1 : decode cX3_childCount 1 = .ok (.iload_n 1, 1) := dk_27 (dk_at dksX3_childCount_0 1 rfl rfl)
theorem dX3_childCount_2 : decode cX3_childCount 2 = .ok (.invokevirtual 128, 3) := dk_182 0 128 (dk_at dksX3_childCount_0 2 rfl rfl)
theorem dX3_childCount_5 : decode cX3_childCount 5 = .ok (.ifCond .eq 5, 3) := dk_153 0 5 (dk_at dksX3_childCount_0 5 rfl rfl)
theorem dX3_childCount_8 : decode cX3_childCount 8 = .ok (.iconst 0, 1) := dk_3 (dk_at dksX3_childCount_0 8 rfl rfl)
theorem dX3_childCount_9 : decode cX3_childCount 9 = .ok (.ireturn, 1) := dk_172 (dk_at dksX3_childCount_0 9 rfl rfl)
theorem dX3_childCount_10 : decode cX3_childCount 10 = .ok (.iconst 0, 1) := dk_3 (dk_at dksX3_childCount_0 10 rfl rfl)
theorem dX3_childCount_11 : decode cX3_childCount 11 = .ok (.istore_n 2, 1) := dk_61 (dk_at dksX3_childCount_0 11 rfl rfl)
theorem dX3_childCount_12 : decode cX3_childCount 12 = .ok (.iconst 0, 1) := dk_3 (dk_at dksX3_childCount_0 12 rfl rfl)
theorem dX3_childCount_13 : decode cX3_childCount 13 = .ok (.istore_n 3, 1) := dk_62 (dk_at dksX3_childCount_0 13 rfl rfl)
theorem dX3_childCount_14 : decode cX3_childCount 14 = .ok (.iload_n 3, 1) := dk_29 (dk_at dksX3_childCount_0 14 rfl rfl)
theorem dX3_childCount_15 : decode cX3_childCount 15 = .ok (.aload_n 0, 1) := dk_42 (dk_at dksX3_childCount_0 15 rfl rfl)
theorem dX3_childCount_16 : decode cX3_childCount 16 = .ok (.getfield 7, 3) := dk_180 0 7 (dk_at dksX3_childCount_0 16 rfl rfl)
theorem dX3_childCount_19 : decode cX3_childCount 19 = .ok (.iconst 0, 1) := dk_3 (dk_at dksX3_childCount_0 19 rfl rfl)
theorem dX3_childCount_20 : decode cX3_childCount 20 = .ok (.iaload, 1) := dk_46 (dk_at dksX3_childCount_0 20 rfl rfl)
theorem dX3_childCount_21 : decode cX3_childCount 21 = .ok (.if_icmp .ge 26, 3) := dk_162 0 26 (dk_at dksX3_childCount_0 21 rfl rfl)
theorem dX3_childCount_24 : decode cX3_childCount 24 = .ok (.iload_n 2, 1) := dk_28 (dk_at dksX3_childCount_1 0 rfl rfl)
theorem dX3_childCount_25 : decode cX3_childCount 25 = .ok (.aload_n 0, 1) := dk_42 (dk_at dksX3_childCount_1 1 rfl rfl)
theorem dX3_childCount_26 : decode cX3_childCount 26 = .ok (.iload_n 3, 1) := dk_29 (dk_at dksX3_childCount_1 2 rfl rfl)
theorem dX3_childCount_27 : decode cX3_childCount 27 = .ok (.invokevirtual 88, 3) := dk_182 0 88 (dk_at dksX3_childCount_1 3 rfl rfl)
theorem dX3_childCount_30 : decode cX3_childCount 30 = .ok (.iload_n 1, 1) := dk_27 (dk_at dksX3_childCount_1 6 rfl rfl)
theorem dX3_childCount_31 : decode cX3_childCount 31 = .ok (.if_icmp .ne 7, 3) := dk_160 0 7 (dk_at dksX3_childCount_1 7 rfl rfl)
theorem dX3_childCount_34 : decode cX3_childCount 34 = .ok (.iconst 1, 1) := dk_4 (dk_at dksX3_childCount_1 10 rfl rfl)
theorem dX3_childCount_35 : decode cX3_childCount 35 = .ok (.goto 4, 3) := dk_167 0 4 (dk_at dksX3_childCount_1 11 rfl rfl)
theorem dX3_childCount_38 : decode cX3_childCount 38 = .ok (.iconst 0, 1) := dk_3 (dk_at dksX3_childCount_1 14 rfl rfl)
theorem dX3_childCount_39 : decode cX3_childCount 39 = .ok (.iadd, 1) := dk_96 (dk_at dksX3_childCount_1 15 rfl rfl)
theorem dX3_childCount_40 : decode cX3_childCount 40 = .ok (.istore_n 2, 1) := dk_61 (dk_at dksX3_childCount_1 16 rfl rfl)
theorem dX3_childCount_41 : decode cX3_childCount 41 = .ok (.iinc 3 1, 3) := dk_132 3 1 (dk_at dksX3_childCount_1 17 rfl rfl)
theorem dX3_childCount_44 : decode cX3_childCount 44 = .ok (.goto (-30), 3) := dk_167 255 226 (dk_at dksX3_childCount_1 20 rfl rfl)
theorem dX3_childCount_47 : decode cX3_childCount 47 = .ok (.iload_n 2, 1) := dk_28 (dk_at dksX3_childCount_1 23 rfl rfl)
theorem dX3_childCount_48 : decode cX3_childCount 48 = .ok (.ireturn, 1) := dk_172 (dk_at dksX3_childCount_2 0 rfl rfl)
def dkwX3_childAt_3 : List UInt8 := [172]
abbrev dktX3_childAt_3 : List UInt8 := dkwX3_childAt_3 ++ []
def dkwX3_childAt_2 : List UInt8 := [167, 255, 236, 42, 29, 156, 0, 7, 5, 167, 0, 4, 3, 182, 0, 82, 153, 0, 7, 3, 167, 0, 4, 29]
abbrev dktX3_childAt_2 : List UInt8 := dkwX3_childAt_2 ++ dktX3_childAt_3
def dkwX3_childAt_1 : List UInt8 := [62, 3, 54, 4, 21, 4, 28, 162, 0, 20, 29, 155, 0, 16, 42, 27, 29, 182, 0, 91, 62, 132, 4, 1]
abbrev dktX3_childAt_1 : List UInt8 := dkwX3_childAt_1 ++ dktX3_childAt_2
def dkwX3_childAt_0 : List UInt8 := [42, 27, 182, 0, 128, 153, 0, 5, 3, 172, 28, 156, 0, 7, 2, 167, 0, 9, 42, 27, 27, 182, 0, 91]
abbrev dktX3_childAt_0 : List UInt8 := dkwX3_childAt_0 ++ dktX3_childAt_1
theorem dksX3_childAt_0 : cX3_childAt.data.toList.drop 0 = dktX3_childAt_0 := by decide +kernel
theorem dksX3_childAt_1 : cX3_childAt.data.toList.drop 24 = dktX3_childAt_1 := dk_seg dksX3_childAt_0 24 rfl rfl
theorem dksX3_childAt_2 : cX3_childAt.data.toList.drop 48 = dktX3_childAt_2 := dk_seg dksX3_childAt_1 24 rfl rfl
theorem dksX3_childAt_3 : cX3_childAt.data.toList.drop 72 = dktX3_childAt_3 := dk_seg dksX3_childAt_2 24 rfl rfl
theorem dX3_childAt_0 : decode cX3_childAt 0 = .ok (.aload_n 0, 1) := dk_42 (dk_at dksX3_childAt_0 0 rfl rfl)
theorem dX3_childAt_1 : decode cX3_childAt 1 = .ok (.iload_n 1, 1) := dk_27 (dk_at dksX3_childAt_0 1 rfl rfl)
theorem dX3_childAt_2 : decode cX3_childAt 2 = .ok (.invokevirtual 128, 3) := dk_182 0 128 (dk_at dksX3_childAt_0 2 rfl rfl)
theorem dX3_childAt_5 : decode cX3_childAt 5 = .ok (.ifCond .eq 5, 3) := dk_153 0 5 (dk_at dksX3_childAt_0 5 rfl rfl)
theorem dX3_childAt_8 : decode cX3_childAt 8 = .ok (.iconst 0, 1) := dk_3 (dk_at dksX3_childAt_0 8 rfl rfl)
theorem dX3_childAt_9 : decode cX3_childAt 9 = .ok (.ireturn, 1) := dk_172 (dk_at dksX3_childAt_0 9 rfl rfl)
theorem dX3_childAt_10 : decode cX3_childAt 10 = .ok (.iload_n 2, 1) := dk_28 (dk_at dksX3_childAt_0 10 rfl rfl)
theorem dX3_childAt_11 : decode cX3_childAt 11 = .ok (.ifCond .ge 7, 3) := dk_156 0 7 (dk_at dksX3_childAt_0 11 rfl rfl)
theorem dX3_childAt_14 : decode cX3_childAt 14 = .ok (.iconst (-1), 1) := dk_2 (dk_at dksX3_childAt_0 14 rfl rfl)
theorem dX3_childAt_15 : decode cX3_childAt 15 = .ok (.goto 9, 3) := dk_167 0 9 (dk_at dksX3_childAt_0 15 rfl rfl)
theorem dX3_childAt_18 : decode cX3_childAt 18 = .ok (.aload_n 0, 1) := dk_42 (dk_at dksX3_childAt_0 18 rfl rfl)
theorem dX3_childAt_19 : decode cX3_childAt 19 = .ok (.iload_n 1, 1) := dk_27 (dk_at dksX3_childAt_0 19 rfl rfl)
theorem dX3_childAt_20 : decode cX3_childAt 20 = .ok (.iload_n 1, 1) := dk_27 (dk_at dksX3_childAt_0 20 rfl rfl)
theorem dX3_childAt_21 : decode cX3_childAt 21 = .ok (.invokevirtual 91, 3) := dk_182 0 91 (dk_at dksX3_childAt_0 21 rfl rfl)
theorem dX3_childAt_24 : decode cX3_childAt 24 = .ok (.istore_n 3, 1) := dk_62 (dk_at dksX3_childAt_1 0 rfl rfl)
theorem dX3_childAt_25 : decode cX3_childAt 25 = .ok (.iconst 0, 1) := dk_3 (dk_at dksX3_childAt_1 1 rfl rfl)
theorem dX3_childAt_26 : decode cX3_childAt 26 = .ok (.istore 4, 2) := dk_54 4 (dk_at dksX3_childAt_1 2 rfl rfl)
theorem dX3_childAt_28 : decode cX3_childAt 28 = .ok (.iload 4, 2) := dk_21 4 (dk_at dksX3_childAt_1 4 rfl rfl)
theorem dX3_childAt_30 : decode cX3_childAt 30 = .ok (.iload_n 2, 1) := dk_28 (dk_at dksX3_childAt_1 6 rfl rfl)
theorem dX3_childAt_31 : decode cX3_childAt 31 = .ok (.if_icmp .ge 20, 3) := dk_162 0 20 (dk_at dksX3_childAt_1 7 rfl rfl)
theorem dX3_childAt_34 : decode cX3_childAt 34 = .ok (.iload_n 3, 1) := dk_29 (dk_at dksX3_childAt_1 10 rfl rfl)
theorem dX3_childAt_35 : decode cX3_childAt 35 = .ok (.ifCond .lt 16, 3) := dk_155 0 16 (dk_at dksX3_childAt_1 11 rfl rfl)
theorem dX3_childAt_38 : decode cX3_childAt 38 = .ok (.aload_n 0, 1) := dk_42 (dk_at dksX3_childAt_1 14 rfl rfl)
theorem dX3_childAt_39 : decode cX3_childAt 39 = .ok (.iload_n 1, 1) := dk_27 (dk_at dksX3_childAt_1 15 rfl rfl)
theorem dX3_childAt_40 : decode cX3_childAt 40 = .ok (.iload_n 3, 1) := dk_29 (dk_at dksX3_childAt_1 16 rfl rfl)
theorem dX3_childAt_41 : decode cX3_childAt 41 = .ok (.invokevirtual 91, 3) := dk_182 0 91 (dk_at dksX3_childAt_1 17 rfl rfl)
theorem dX3_childAt_44 : decode cX3_childAt 44 = .ok (.istore_n 3, 1) := dk_62 (dk_at dksX3_childAt_1 20 rfl rfl)
theorem dX3_childAt_45 : decode cX3_childAt 45 = .ok (.iinc 4 1, 3) := dk_132 4 1 (dk_at dksX3_childAt_1 21 rfl rfl)
theorem dX3_childAt_48 : decode cX3_childAt 48 = .ok (.goto (-20), 3) := dk_167 255 236 (dk_at dksX3_childAt_2 0 rfl rfl)
theorem dX3_childAt_51 : decode cX3_childAt 51 = .ok (.aload_n 0, 1) := dk_42 (dk_at dksX3_childAt_2 3 rfl rfl)
theorem dX3_childAt_52 : decode cX3_childAt 52 = .ok (.iload_n 3, 1) := dk_29 (dk_at dksX3_childAt_2 4 rfl rfl)
theorem dX3_childAt_53 : decode cX3_childAt 53 = .ok (.ifCond .ge 7, 3) := dk_156 0 7 (dk_at dksX3_childAt_2 5 rfl rfl)
theorem dX3_childAt_56 : decode cX3_childAt 56 = .ok (.iconst 2, 1) := dk_5 (dk_at dksX3_childAt_2 8 rfl rfl)
theorem dX3_childAt_57 : decode cX3_childAt 57 = .ok (.goto 4, 3) := dk_167 0 4 (dk_at dksX3_childAt_2 9 rfl rfl)
theorem dX3_childAt_60 : decode cX3_childAt 60 = .ok (.iconst 0, 1) := dk_3 (dk_at dksX3_childAt_2 12 rfl rfl)
theorem dX3_childAt_61 : decode cX3_childAt 61 = .ok (.invokevirtual 82, 3) := dk_182 0 82 (dk_at dksX3_childAt_2 13 rfl rfl)
theorem dX3_childAt_64 : decode cX3_childAt 64 = .ok (.ifCond .eq 7, 3) := dk_153 0 7 (dk_at dksX3_childAt_2 16 rfl rfl)
theorem dX3_childAt_67 : decode cX3_childAt 67 = .ok (.iconst 0, 1) := dk_3 (dk_at dksX3_childAt_2 19 rfl rfl)
theorem dX3_childAt_68 : decode cX3_childAt 68 = .ok (.goto 4, 3) := dk_167 0 4 (dk_at dksX3_childAt_2 20 rfl rfl)
theorem dX3_childAt_71 : decode cX3_childAt 71 = .ok (.iload_n 3, 1) := dk_29 (dk_at dksX3_childAt_2 23 rfl rfl)
theorem dX3_childAt_72 : decode cX3_childAt 72 = .ok (.ireturn, 1) := dk_172 (dk_at dksX3_childAt_3 0 rfl rfl)
def dkwX3_generation_0 : List UInt8 := [42, 27, 182, 0, 128, 153, 0, 7, 3, 167, 0, 8, 42, 27, 182, 0, 131, 172]
abbrev dktX3_generation_0 : List UInt8 := dkwX3_generation_0 ++ []
theorem dksX3_generation_0 : cX3_generation.data.toList.drop 0 = dktX3_generation_0 := by decide +kernel
theorem dX3_generation_0 : decode cX3_generation 0 = .ok (.aload_n 0, 1) := dk_42 (dk_at dksX3_generation_0 0 rfl rfl)
theorem dX3_generation_1 : decode cX3_generation 1 = .ok (.iload_n 1, 1) := dk_27 (dk_at dksX3_generation_0 1 rfl rfl)
theorem dX3_generation_2 : decode cX3_generation 2 = .ok (.invokevirtual 128, 3) := dk_182 0 128 (dk_at dksX3_generation_0 2 rfl rfl)
theorem dX3_generation_5 : decode cX3_generation 5 = .ok (.ifCond .eq 7, 3) := dk_153 0 7 (dk_at dksX3_generation_0 5 rfl rfl)
theorem dX3_generation_8 : decode cX3_generation 8 = .ok (.iconst 0, 1) := dk_3 (dk_at dksX3_generation_0 8 rfl rfl)
theorem dX3_generation_9 : decode cX3_generation 9 = .ok (.goto 8, 3) := dk_167 0 8 (dk_at dksX3_generation_0 9 rfl rfl)
theorem dX3_generation_12 : decode cX3_generation 12 = .ok (.aload_n 0, 1) := dk_42 (dk_at dksX3_generation_0 12 rfl rfl)
theorem dX3_generation_13 : decode cX3_generation 13 = .ok (.iload_n 1, 1) := dk_27 (dk_at dksX3_generation_0 13 rfl rfl)
theorem dX3_generation_14 : decode cX3_generation 14 = .ok (.invokevirtual 131, 3) := dk_182 0 131 (dk_at dksX3_generation_0 14 rfl rfl)
theorem dX3_generation_17 : decode cX3_generation 17 = .ok (.ireturn, 1) := dk_172 (dk_at dksX3_generation_0 17 rfl rfl)
def dkwX3_depth_1 : List UInt8 := [28, 172]
abbrev dktX3_depth_1 : List UInt8 := dkwX3_depth_1 ++ []
def dkwX3_depth_0 : List UInt8 := [3, 61, 42, 27, 182, 0, 88, 62, 29, 155, 0, 15, 132, 2, 1, 42, 29, 182, 0, 88, 62, 167, 255, 243]
abbrev dktX3_depth_0 : List UInt8 := dkwX3_depth_0 ++ dktX3_depth_1
theorem dksX3_depth_0 : cX3_depth.data.toList.drop 0 = dktX3_depth_0 := by decide +kernel
theorem dksX3_depth_1 : cX3_depth.data.toList.drop 24 = dktX3_depth_1 := dk_seg dksX3_depth_0 24 rfl rfl
theorem dX3_depth_0 : decode cX3_depth 0 = .ok (.iconst 0, 1) := dk_3 (dk_at dksX3_depth_0 0 rfl rfl)
theorem dX3_depth_1 : decode cX3_depth 1 = .ok (.istore_n 2, 1) := dk_61 (dk_at dksX3_depth_0 1 rfl rfl)
theorem dX3_depth_2 : decode cX3_depth 2 = .ok (.aload_n 0, 1) := dk_42 (dk_at dksX3_depth_0 2 rfl rfl)
theorem dX3_depth_3 : decode cX3_depth 3 = .ok (.iload_n 1, 1) := dk_27 (dk_at dksX3_depth_0 3 rfl rfl)
theorem dX3_depth_4 : decode cX3_depth 4 = .ok (.invokevirtual 88, 3) := dk_182 0 88 (dk_at dksX3_depth_0 4 rfl rfl)
theorem dX3_depth_7 : decode cX3_depth 7 = .ok (.istore_n 3, 1) := dk_62 (dk_at dksX3_depth_0 7 rfl rfl)
theorem dX3_depth_8 : decode cX3_depth 8 = .ok (.iload_n 3, 1) := dk_29 (dk_at dksX3_depth_0 8 rfl rfl)
theorem dX3_depth_9 : decode cX3_depth 9 = .ok (.ifCond .lt 15, 3) := dk_155 0 15 (dk_at dksX3_depth_0 9 rfl rfl)
theorem dX3_depth_12 : decode cX3_depth 12 = .ok (.iinc 2 1, 3) := dk_132 2 1 (dk_at dksX3_depth_0 12 rfl rfl)
theorem dX3_depth_15 : decode cX3_depth 15 = .ok (.aload_n 0, 1) := dk_42 (dk_at dksX3_depth_0 15 rfl rfl)
theorem dX3_depth_16 : decode cX3_depth 16 = .ok (.iload_n 3, 1) := dk_29 (dk_at dksX3_depth_0 16 rfl rfl)
theorem dX3_depth_17 : decode cX3_depth 17 = .ok (.invokevirtual 88, 3) := dk_182 0 88 (dk_at dksX3_depth_0 17 rfl rfl)
theorem dX3_depth_20 : decode cX3_depth 20 = .ok (.istore_n 3, 1) := dk_62 (dk_at dksX3_depth_0 20 rfl rfl)
theorem dX3_depth_21 : decode cX3_depth 21 = .ok (.goto (-13), 3) := dk_167 255 243 (dk_at dksX3_depth_0 21 rfl rfl)
theorem dX3_depth_24 : decode cX3_depth 24 = .ok (.iload_n 2, 1) := dk_28 (dk_at dksX3_depth_1 0 rfl rfl)
theorem dX3_depth_25 : decode cX3_depth 25 = .ok (.ireturn, 1) := dk_172 (dk_at dksX3_depth_1 1 rfl rfl)
def dkwX3_livingDescendants_2 : List UInt8 := [61, 132, 3, 1, 167, 255, 218, 28, 172]
abbrev dktX3_livingDescendants_2 : List UInt8 := dkwX3_livingDescendants_2 ++ []
def dkwX3_livingDescendants_1 : List UInt8 := [28, 42, 29, 182, 0, 85, 153, 0, 16, 42, 27, 29, 182, 0, 134, 153, 0, 7, 4, 167, 0, 4, 3, 96]
abbrev dktX3_livingDescendants_1 : List UInt8 := dkwX3_livingDescendants_1 ++ dktX3_livingDescendants_2
def dkwX3_livingDescendants_0 : List UInt8 := [42, 27, 182, 0, 128, 153, 0, 5, 3, 172, 3, 61, 3, 62, 29, 42, 180, 0, 7, 3, 46, 162, 0, 34]
abbrev dktX3_livingDescendants_0 : List UInt8 := dkwX3_livingDescendants_0 ++ dktX3_livingDescendants_1
theorem dksX3_livingDescendants_0 : cX3_livingDescendants.data.toList.drop 0 = dktX3_livingDescendants_0 := by decide +kernel
theorem dksX3_livingDescendants_1 : cX3_livingDescendants.data.toList.drop 24 = dktX3_livingDescendants_1 := dk_seg dksX3_livingDescendants_0 24 rfl rfl
theorem dksX3_livingDescendants_2 : cX3_livingDescendants.data.toList.drop 48 = dktX3_livingDescendants_2 := dk_seg dksX3_livingDescendants_1 24 rfl rfl
theorem dX3_livingDescendants_0 : decode cX3_livingDescendants 0 = .ok (.aload_n 0, 1) := dk_42 (dk_at dksX3_livingDescendants_0 0 rfl rfl)
theorem dX3_livingDescendants_1 : decode cX3_livingDescendants 1 = .ok (.iload_n 1, 1) := dk_27 (dk_at dksX3_livingDescendants_0 1 rfl rfl)
theorem dX3_livingDescendants_2 : decode cX3_livingDescendants 2 = .ok (.invokevirtual 128, 3) := dk_182 0 128 (dk_at dksX3_livingDescendants_0 2 rfl rfl)
theorem dX3_livingDescendants_5 : decode cX3_livingDescendants 5 = .ok (.ifCond .eq 5, 3) := dk_153 0 5 (dk_at dksX3_livingDescendants_0 5 rfl rfl)
theorem dX3_livingDescendants_8 : decode cX3_livingDescendants 8 = .ok (.iconst 0, 1) := dk_3 (dk_at dksX3_livingDescendants_0 8 rfl rfl)
theorem dX3_livingDescendants_9 : decode cX3_livingDescendants 9 = .ok (.ireturn, 1) := dk_172 (dk_at dksX3_livingDescendants_0 9 rfl rfl)
theorem dX3_livingDescendants_10 : decode cX3_livingDescendants 10 = .ok (.iconst 0, 1) := dk_3 (dk_at dksX3_livingDescendants_0 10 rfl rfl)
theorem dX3_livingDescendants_11 : decode cX3_livingDescendants 11 = .ok (.istore_n 2, 1) := dk_61 (dk_at dksX3_livingDescendants_0 11 rfl rfl)
theorem dX3_livingDescendants_12 : decode cX3_livingDescendants 12 = .ok (.iconst 0, 1) := dk_3 (dk_at dksX3_livingDescendants_0 12 rfl rfl)
theorem dX3_livingDescendants_13 : decode cX3_livingDescendants 13 = .ok (.istore_n 3, 1) := dk_62 (dk_at dksX3_livingDescendants_0 13 rfl rfl)
theorem dX3_livingDescendants_14 : decode cX3_livingDescendants 14 = .ok (.iload_n 3, 1) := dk_29 (dk_at dksX3_livingDescendants_0 14 rfl rfl)
theorem dX3_livingDescendants_15 : decode cX3_livingDescendants 15 = .ok (.aload_n 0, 1) := dk_42 (dk_at dksX3_livingDescendants_0 15 rfl rfl)
theorem dX3_livingDescendants_16 : decode cX3_livingDescendants 16 = .ok (.getfield 7, 3) := dk_180 0 7 (dk_at dksX3_livingDescendants_0 16 rfl rfl)
theorem dX3_livingDescendants_19 : decode cX3_livingDescendants 19 = .ok (.iconst 0, 1) := dk_3 (dk_at dksX3_livingDescendants_0 19 rfl rfl)
theorem dX3_livingDescendants_20 : decode cX3_livingDescendants 20 = .ok (.iaload, 1) := dk_46 (dk_at dksX3_livingDescendants_0 20 rfl rfl)
theorem dX3_livingDescendants_21 : decode cX3_livingDescendants 21 = .ok (.if_icmp .ge 34, 3) := dk_162 0 34 (dk_at dksX3_livingDescendants_0 21 rfl rfl)
theorem dX3_livingDescendants_24 : decode cX3_livingDescendants 24 = .ok (.iload_n 2, 1) := dk_28 (dk_at dksX3_livingDescendants_1 0 rfl rfl)
theorem dX3_livingDescendants_25 : decode cX3_livingDescendants 25 = .ok (.aload_n 0, 1) := dk_42 (dk_at dksX3_livingDescendants_1 1 rfl rfl)
theorem dX3_livingDescendants_26 : decode cX3_livingDescendants 26 = .ok (.iload_n 3, 1) := dk_29 (dk_at dksX3_livingDescendants_1 2 rfl rfl)
theorem dX3_livingDescendants_27 : decode cX3_livingDescendants 27 = .ok (.invokevirtual 85, 3) := dk_182 0 85 (dk_at dksX3_livingDescendants_1 3 rfl rfl)
theorem dX3_livingDescendants_30 : decode cX3_livingDescendants 30 = .ok (.ifCond .eq 16, 3) := dk_153 0 16 (dk_at dksX3_livingDescendants_1 6 rfl rfl)
theorem dX3_livingDescendants_33 : decode cX3_livingDescendants 33 = .ok (.aload_n 0, 1) := dk_42 (dk_at dksX3_livingDescendants_1 9 rfl rfl)
theorem dX3_livingDescendants_34 : decode cX3_livingDescendants 34 = .ok (.iload_n 1, 1) := dk_27 (dk_at dksX3_livingDescendants_1 10 rfl rfl)
theorem dX3_livingDescendants_35 : decode cX3_livingDescendants 35 = .ok (.iload_n 3, 1) := dk_29 (dk_at dksX3_livingDescendants_1 11 rfl rfl)
theorem dX3_livingDescendants_36 : decode cX3_livingDescendants 36 = .ok (.invokevirtual 134, 3) := dk_182 0 134 (dk_at dksX3_livingDescendants_1 12 rfl rfl)
theorem dX3_livingDescendants_39 : decode cX3_livingDescendants 39 = .ok (.ifCond .eq 7, 3) := dk_153 0 7 (dk_at dksX3_livingDescendants_1 15 rfl rfl)
theorem dX3_livingDescendants_42 : decode cX3_livingDescendants 42 = .ok (.iconst 1, 1) := dk_4 (dk_at dksX3_livingDescendants_1 18 rfl rfl)
theorem dX3_livingDescendants_43 : decode cX3_livingDescendants 43 = .ok (.goto 4, 3) := dk_167 0 4 (dk_at dksX3_livingDescendants_1 19 rfl rfl)
theorem dX3_livingDescendants_46 : decode cX3_livingDescendants 46 = .ok (.iconst 0, 1) := dk_3 (dk_at dksX3_livingDescendants_1 22 rfl rfl)
theorem dX3_livingDescendants_47 : decode cX3_livingDescendants 47 = .ok (.iadd, 1) := dk_96 (dk_at dksX3_livingDescendants_1 23 rfl rfl)
theorem dX3_livingDescendants_48 : decode cX3_livingDescendants 48 = .ok (.istore_n 2, 1) := dk_61 (dk_at dksX3_livingDescendants_2 0 rfl rfl)
theorem dX3_livingDescendants_49 : decode cX3_livingDescendants 49 = .ok (.iinc 3 1, 3) := dk_132 3 1 (dk_at dksX3_livingDescendants_2 1 rfl rfl)
theorem dX3_livingDescendants_52 : decode cX3_livingDescendants 52 = .ok (.goto (-38), 3) := dk_167 255 218 (dk_at dksX3_livingDescendants_2 4 rfl rfl)
theorem dX3_livingDescendants_55 : decode cX3_livingDescendants 55 = .ok (.iload_n 2, 1) := dk_28 (dk_at dksX3_livingDescendants_2 7 rfl rfl)
theorem dX3_livingDescendants_56 : decode cX3_livingDescendants 56 = .ok (.ireturn, 1) := dk_172 (dk_at dksX3_livingDescendants_2 8 rfl rfl)
def dkwX3_isAbove_1 : List UInt8 := [29, 155, 0, 7, 4, 167, 0, 4, 3, 172]
abbrev dktX3_isAbove_1 : List UInt8 := dkwX3_isAbove_1 ++ []
def dkwX3_isAbove_0 : List UInt8 := [42, 28, 182, 0, 88, 62, 29, 155, 0, 17, 29, 27, 159, 0, 12, 42, 29, 182, 0, 88, 62, 167, 255, 241]
abbrev dktX3_isAbove_0 : List UInt8 := dkwX3_isAbove_0 ++ dktX3_isAbove_1
theorem dksX3_isAbove_0 : cX3_isAbove.data.toList.drop 0 = dktX3_isAbove_0 := by decide +kernel
theorem dksX3_isAbove_1 : cX3_isAbove.data.toList.drop 24 = dktX3_isAbove_1 := dk_seg dksX3_isAbove_0 24 rfl rfl
theorem dX3_isAbove_0 : decode cX3_isAbove 0 = .ok (.aload_n 0, 1) := dk_42 (dk_at dksX3_isAbove_0 0 rfl rfl)
theorem dX3_isAbove_1 : decode cX3_isAbove 1 = .ok (.iload_n 2, 1) := dk_28 (dk_at dksX3_isAbove_0 1 rfl rfl)
theorem dX3_isAbove_2 : decode cX3_isAbove 2 = .ok (.invokevirtual 88, 3) := dk_182 0 88 (dk_at dksX3_isAbove_0 2 rfl rfl)
theorem dX3_isAbove_5 : decode cX3_isAbove 5 = .ok (.istore_n 3, 1) := dk_62 (dk_at dksX3_isAbove_0 5 rfl rfl)
theorem dX3_isAbove_6 : decode cX3_isAbove 6 = .ok (.iload_n 3, 1) := dk_29 (dk_at dksX3_isAbove_0 6 rfl rfl)
theorem dX3_isAbove_7 : decode cX3_isAbove 7 = .ok (.ifCond .lt 17, 3) := dk_155 0 17 (dk_at dksX3_isAbove_0 7 rfl rfl)
theorem dX3_isAbove_10 : decode cX3_isAbove 10 = .ok (.iload_n 3, 1) := dk_29 (dk_at dksX3_isAbove_0 10 rfl rfl)
theorem dX3_isAbove_11 : decode cX3_isAbove 11 = .ok (.iload_n 1, 1) := dk_27 (dk_at dksX3_isAbove_0 11 rfl rfl)
theorem dX3_isAbove_12 : decode cX3_isAbove 12 = .ok (.if_icmp .eq 12, 3) := dk_159 0 12 (dk_at dksX3_isAbove_0 12 rfl rfl)
theorem dX3_isAbove_15 : decode cX3_isAbove 15 = .ok (.aload_n 0, 1) := dk_42 (dk_at dksX3_isAbove_0 15 rfl rfl)
theorem dX3_isAbove_16 : decode cX3_isAbove 16 = .ok (.iload_n 3, 1) := dk_29 (dk_at dksX3_isAbove_0 16 rfl rfl)
theorem dX3_isAbove_17 : decode cX3_isAbove 17 = .ok (.invokevirtual 88, 3) := dk_182 0 88 (dk_at dksX3_isAbove_0 17 rfl rfl)
theorem dX3_isAbove_20 : decode cX3_isAbove 20 = .ok (.istore_n 3, 1) := dk_62 (dk_at dksX3_isAbove_0 20 rfl rfl)
theorem dX3_isAbove_21 : decode cX3_isAbove 21 = .ok (.goto (-15), 3) := dk_167 255 241 (dk_at dksX3_isAbove_0 21 rfl rfl)
theorem dX3_isAbove_24 : decode cX3_isAbove 24 = .ok (.iload_n 3, 1) := dk_29 (dk_at dksX3_isAbove_1 0 rfl rfl)
theorem dX3_isAbove_25 : decode cX3_isAbove 25 = .ok (.ifCond .lt 7, 3) := dk_155 0 7 (dk_at dksX3_isAbove_1 1 rfl rfl)
theorem dX3_isAbove_28 : decode cX3_isAbove 28 = .ok (.iconst 1, 1) := dk_4 (dk_at dksX3_isAbove_1 4 rfl rfl)
theorem dX3_isAbove_29 : decode cX3_isAbove 29 = .ok (.goto 4, 3) := dk_167 0 4 (dk_at dksX3_isAbove_1 5 rfl rfl)
theorem dX3_isAbove_32 : decode cX3_isAbove 32 = .ok (.iconst 0, 1) := dk_3 (dk_at dksX3_isAbove_1 8 rfl rfl)
theorem dX3_isAbove_33 : decode cX3_isAbove 33 = .ok (.ireturn, 1) := dk_172 (dk_at dksX3_isAbove_1 9 rfl rfl)
def dkwX3_isAncestor_1 : List UInt8 := [182, 0, 134, 153, 0, 7, 4, 167, 0, 4, 3, 172]
abbrev dktX3_isAncestor_1 : List UInt8 := dkwX3_isAncestor_1 ++ []
def dkwX3_isAncestor_0 : List UInt8 := [42, 42, 27, 28, 182, 0, 138, 153, 0, 7, 3, 167, 0, 4, 4, 182, 0, 82, 154, 0, 16, 42, 27, 28]
abbrev dktX3_isAncestor_0 : List UInt8 := dkwX3_isAncestor_0 ++ dktX3_isAncestor_1
theorem dksX3_isAncestor_0 : cX3_isAncestor.data.toList.drop 0 = dktX3_isAncestor_0 := by decide +kernel
theorem dksX3_isAncestor_1 : cX3_isAncestor.data.toList.drop 24 = dktX3_isAncestor_1 := dk_seg dksX3_isAncestor_0 24 rfl rfl
theorem dX3_isAncestor_0 : decode cX3_isAncestor 0 = .ok (.aload_n 0, 1) := dk_42 (dk_at dksX3_isAncestor_0 0 rfl rfl)
theorem dX3_isAncestor_1 : decode cX3_isAncestor 1 = .ok (.aload_n 0, 1) := dk_42 (dk_at dksX3_isAncestor_0 1 rfl rfl)
theorem dX3_isAncestor_2 : decode cX3_isAncestor 2 = .ok (.iload_n 1, 1) := dk_27 (dk_at dksX3_isAncestor_0 2 rfl rfl)
theorem dX3_isAncestor_3 : decode cX3_isAncestor 3 = .ok (.iload_n 2, 1) := dk_28 (dk_at dksX3_isAncestor_0 3 rfl rfl)
theorem dX3_isAncestor_4 : decode cX3_isAncestor 4 = .ok (.invokevirtual 138, 3) := dk_182 0 138 (dk_at dksX3_isAncestor_0 4 rfl rfl)
theorem dX3_isAncestor_7 : decode cX3_isAncestor 7 = .ok (.ifCond .eq 7, 3) := dk_153 0 7 (dk_at dksX3_isAncestor_0 7 rfl rfl)
theorem dX3_isAncestor_10 : decode cX3_isAncestor 10 = .ok (.iconst 0, 1) := dk_3 (dk_at dksX3_isAncestor_0 10 rfl rfl)
theorem dX3_isAncestor_11 : decode cX3_isAncestor 11 = .ok (.goto 4, 3) := dk_167 0 4 (dk_at dksX3_isAncestor_0 11 rfl rfl)
theorem dX3_isAncestor_14 : decode cX3_isAncestor 14 = .ok (.iconst 1, 1) := dk_4 (dk_at dksX3_isAncestor_0 14 rfl rfl)
theorem dX3_isAncestor_15 : decode cX3_isAncestor 15 = .ok (.invokevirtual 82, 3) := dk_182 0 82 (dk_at dksX3_isAncestor_0 15 rfl rfl)
theorem dX3_isAncestor_18 : decode cX3_isAncestor 18 = .ok (.ifCond .ne 16, 3) := dk_154 0 16 (dk_at dksX3_isAncestor_0 18 rfl rfl)
theorem dX3_isAncestor_21 : decode cX3_isAncestor 21 = .ok (.aload_n 0, 1) := dk_42 (dk_at dksX3_isAncestor_0 21 rfl rfl)
theorem dX3_isAncestor_22 : decode cX3_isAncestor 22 = .ok (.iload_n 1, 1) := dk_27 (dk_at dksX3_isAncestor_0 22 rfl rfl)
theorem dX3_isAncestor_23 : decode cX3_isAncestor 23 = .ok (.iload_n 2, 1) := dk_28 (dk_at dksX3_isAncestor_0 23 rfl rfl)
theorem dX3_isAncestor_24 : decode cX3_isAncestor 24 = .ok (.invokevirtual 134, 3) := dk_182 0 134 (dk_at dksX3_isAncestor_1 0 rfl rfl)
theorem dX3_isAncestor_27 : decode cX3_isAncestor 27 = .ok (.ifCond .eq 7, 3) := dk_153 0 7 (dk_at dksX3_isAncestor_1 3 rfl rfl)
theorem dX3_isAncestor_30 : decode cX3_isAncestor 30 = .ok (.iconst 1, 1) := dk_4 (dk_at dksX3_isAncestor_1 6 rfl rfl)
theorem dX3_isAncestor_31 : decode cX3_isAncestor 31 = .ok (.goto 4, 3) := dk_167 0 4 (dk_at dksX3_isAncestor_1 7 rfl rfl)
theorem dX3_isAncestor_34 : decode cX3_isAncestor 34 = .ok (.iconst 0, 1) := dk_3 (dk_at dksX3_isAncestor_1 10 rfl rfl)
theorem dX3_isAncestor_35 : decode cX3_isAncestor 35 = .ok (.ireturn, 1) := dk_172 (dk_at dksX3_isAncestor_1 11 rfl rfl)
def dkwX3_arePeople_0 : List UInt8 := [42, 27, 182, 0, 66, 153, 0, 15, 42, 28, 182, 0, 66, 153, 0, 7, 4, 167, 0, 4, 3, 172]
abbrev dktX3_arePeople_0 : List UInt8 := dkwX3_arePeople_0 ++ []
theorem dksX3_arePeople_0 : cX3_arePeople.data.toList.drop 0 = dktX3_arePeople_0 := by decide +kernel
theorem dX3_arePeople_0 : decode cX3_arePeople 0 = .ok (.aload_n 0, 1) := dk_42 (dk_at dksX3_arePeople_0 0 rfl rfl)
theorem dX3_arePeople_1 : decode cX3_arePeople 1 = .ok (.iload_n 1, 1) := dk_27 (dk_at dksX3_arePeople_0 1 rfl rfl)
theorem dX3_arePeople_2 : decode cX3_arePeople 2 = .ok (.invokevirtual 66, 3) := dk_182 0 66 (dk_at dksX3_arePeople_0 2 rfl rfl)
theorem dX3_arePeople_5 : decode cX3_arePeople 5 = .ok (.ifCond .eq 15, 3) := dk_153 0 15 (dk_at dksX3_arePeople_0 5 rfl rfl)
theorem dX3_arePeople_8 : decode cX3_arePeople 8 = .ok (.aload_n 0, 1) := dk_42 (dk_at dksX3_arePeople_0 8 rfl rfl)
theorem dX3_arePeople_9 : decode cX3_arePeople 9 = .ok (.iload_n 2, 1) := dk_28 (dk_at dksX3_arePeople_0 9 rfl rfl)
theorem dX3_arePeople_10 : decode cX3_arePeople 10 = .ok (.invokevirtual 66, 3) := dk_182 0 66 (dk_at dksX3_arePeople_0 10 rfl rfl)
theorem dX3_arePeople_13 : decode cX3_arePeople 13 = .ok (.ifCond .eq 7, 3) := dk_153 0 7 (dk_at dksX3_arePeople_0 13 rfl rfl)
theorem dX3_arePeople_16 : decode cX3_arePeople 16 = .ok (.iconst 1, 1) := dk_4 (dk_at dksX3_arePeople_0 16 rfl rfl)
theorem dX3_arePeople_17 : decode cX3_arePeople 17 = .ok (.goto 4, 3) := dk_167 0 4 (dk_at dksX3_arePeople_0 17 rfl rfl)
theorem dX3_arePeople_20 : decode cX3_arePeople 20 = .ok (.iconst 0, 1) := dk_3 (dk_at dksX3_arePeople_0 20 rfl rfl)
theorem dX3_arePeople_21 : decode cX3_arePeople 21 = .ok (.ireturn, 1) := dk_172 (dk_at dksX3_arePeople_0 21 rfl rfl)
def dkwX3_commonAncestor_0 : List UInt8 := [42, 27, 28, 182, 0, 144, 153, 0, 7, 3, 167, 0, 9, 42, 27, 28, 182, 0, 141, 172]
abbrev dktX3_commonAncestor_0 : List UInt8 := dkwX3_commonAncestor_0 ++ []
theorem dksX3_commonAncestor_0 : cX3_commonAncestor.data.toList.drop 0 = dktX3_commonAncestor_0 := by decide +kernel
theorem dX3_commonAncestor_0 : decode cX3_commonAncestor 0 = .ok (.aload_n 0, 1) := dk_42 (dk_at dksX3_commonAncestor_0 0 rfl rfl)
theorem dX3_commonAncestor_1 : decode cX3_commonAncestor 1 = .ok (.iload_n 1, 1) := dk_27 (dk_at dksX3_commonAncestor_0 1 rfl rfl)
theorem dX3_commonAncestor_2 : decode cX3_commonAncestor 2 = .ok (.iload_n 2, 1) := dk_28 (dk_at dksX3_commonAncestor_0 2 rfl rfl)
theorem dX3_commonAncestor_3 : decode cX3_commonAncestor 3 = .ok (.invokevirtual 144, 3) := dk_182 0 144 (dk_at dksX3_commonAncestor_0 3 rfl rfl)
theorem dX3_commonAncestor_6 : decode cX3_commonAncestor 6 = .ok (.ifCond .eq 7, 3) := dk_153 0 7 (dk_at dksX3_commonAncestor_0 6 rfl rfl)
theorem dX3_commonAncestor_9 : decode cX3_commonAncestor 9 = .ok (.iconst 0, 1) := dk_3 (dk_at dksX3_commonAncestor_0 9 rfl rfl)
theorem dX3_commonAncestor_10 : decode cX3_commonAncestor 10 = .ok (.goto 9, 3) := dk_167 0 9 (dk_at dksX3_commonAncestor_0 10 rfl rfl)
theorem dX3_commonAncestor_13 : decode cX3_commonAncestor 13 = .ok (.aload_n 0, 1) := dk_42 (dk_at dksX3_commonAncestor_0 13 rfl rfl)
theorem dX3_commonAncestor_14 : decode cX3_commonAncestor 14 = .ok (.iload_n 1, 1) := dk_27 (dk_at dksX3_commonAncestor_0 14 rfl rfl)
theorem dX3_commonAncestor_15 : decode cX3_commonAncestor 15 = .ok (.iload_n 2, 1) := dk_28 (dk_at dksX3_commonAncestor_0 15 rfl rfl)
theorem dX3_commonAncestor_16 : decode cX3_commonAncestor 16 = .ok (.invokevirtual 141, 3) := dk_182 0 141 (dk_at dksX3_commonAncestor_0 16 rfl rfl)
theorem dX3_commonAncestor_19 : decode cX3_commonAncestor 19 = .ok (.ireturn, 1) := dk_172 (dk_at dksX3_commonAncestor_0 19 rfl rfl)
def dkwX3_areStrangers_1 : List UInt8 := [167, 0, 4, 3, 182, 0, 82, 172]
abbrev dktX3_areStrangers_1 : List UInt8 := dkwX3_areStrangers_1 ++ []
def dkwX3_areStrangers_0 : List UInt8 := [42, 42, 27, 28, 182, 0, 138, 154, 0, 7, 4, 167, 0, 17, 42, 27, 28, 182, 0, 141, 156, 0, 7, 5]
abbrev dktX3_areStrangers_0 : List UInt8 := dkwX3_areStrangers_0 ++ dktX3_areStrangers_1
theorem dksX3_areStrangers_0 : cX3_areStrangers.data.toList.drop 0 = dktX3_areStrangers_0 := by decide +kernel
theorem dksX3_areStrangers_1 : cX3_areStrangers.data.toList.drop 24 = dktX3_areStrangers_1 := dk_seg dksX3_areStrangers_0 24 rfl rfl
theorem dX3_areStrangers_0 : decode cX3_areStrangers 0 = .ok (.aload_n 0, 1) := dk_42 (dk_at dksX3_areStrangers_0 0 rfl rfl)
theorem dX3_areStrangers_1 : decode cX3_areStrangers 1 = .ok (.aload_n 0, 1) := dk_42 (dk_at dksX3_areStrangers_0 1 rfl rfl)
theorem dX3_areStrangers_2 : decode cX3_areStrangers 2 = .ok (.iload_n 1, 1) := dk_27 (dk_at dksX3_areStrangers_0 2 rfl rfl)
theorem dX3_areStrangers_3 : decode cX3_areStrangers 3 = .ok (.iload_n 2, 1) := dk_28 (dk_at dksX3_areStrangers_0 3 rfl rfl)
theorem dX3_areStrangers_4 : decode cX3_areStrangers 4 = .ok (.invokevirtual 138, 3) := dk_182 0 138 (dk_at dksX3_areStrangers_0 4 rfl rfl)
theorem dX3_areStrangers_7 : decode cX3_areStrangers 7 = .ok (.ifCond .ne 7, 3) := dk_154 0 7 (dk_at dksX3_areStrangers_0 7 rfl rfl)
theorem dX3_areStrangers_10 : decode cX3_areStrangers 10 = .ok (.iconst 1, 1) := dk_4 (dk_at dksX3_areStrangers_0 10 rfl rfl)
theorem dX3_areStrangers_11 : decode cX3_areStrangers 11 = .ok (.goto 17, 3) := dk_167 0 17 (dk_at dksX3_areStrangers_0 11 rfl rfl)
theorem dX3_areStrangers_14 : decode cX3_areStrangers 14 = .ok (.aload_n 0, 1) := dk_42 (dk_at dksX3_areStrangers_0 14 rfl rfl)
theorem dX3_areStrangers_15 : decode cX3_areStrangers 15 = .ok (.iload_n 1, 1) := dk_27 (dk_at dksX3_areStrangers_0 15 rfl rfl)
theorem dX3_areStrangers_16 : decode cX3_areStrangers 16 = .ok (.iload_n 2, 1) := dk_28 (dk_at dksX3_areStrangers_0 16 rfl rfl)
theorem dX3_areStrangers_17 : decode cX3_areStrangers 17 = .ok (.invokevirtual 141, 3) := dk_182 0 141 (dk_at dksX3_areStrangers_0 17 rfl rfl)
theorem dX3_areStrangers_20 : decode cX3_areStrangers 20 = .ok (.ifCond .ge 7, 3) := dk_156 0 7 (dk_at dksX3_areStrangers_0 20 rfl rfl)
theorem dX3_areStrangers_23 : decode cX3_areStrangers 23 = .ok (.iconst 2, 1) := dk_5 (dk_at dksX3_areStrangers_0 23 rfl rfl)
theorem dX3_areStrangers_24 : decode cX3_areStrangers 24 = .ok (.goto 4, 3) := dk_167 0 4 (dk_at dksX3_areStrangers_1 0 rfl rfl)
theorem dX3_areStrangers_27 : decode cX3_areStrangers 27 = .ok (.iconst 0, 1) := dk_3 (dk_at dksX3_areStrangers_1 3 rfl rfl)
theorem dX3_areStrangers_28 : decode cX3_areStrangers 28 = .ok (.invokevirtual 82, 3) := dk_182 0 82 (dk_at dksX3_areStrangers_1 4 rfl rfl)
theorem dX3_areStrangers_31 : decode cX3_areStrangers 31 = .ok (.ireturn, 1) := dk_172 (dk_at dksX3_areStrangers_1 7 rfl rfl)
def dkwX3_common_1 : List UInt8 := [182, 0, 88, 62, 167, 255, 232, 29, 172]
abbrev dktX3_common_1 : List UInt8 := dkwX3_common_1 ++ []
def dkwX3_common_0 : List UInt8 := [27, 62, 29, 155, 0, 26, 29, 28, 159, 0, 21, 42, 29, 28, 182, 0, 134, 154, 0, 12, 42, 29]
abbrev dktX3_common_0 : List UInt8 := dkwX3_common_0 ++ dktX3_common_1
theorem dksX3_common_0 : cX3_common.data.toList.drop 0 = dktX3_common_0 := by decide +kernel
theorem dksX3_common_1 : cX3_common.data.toList.drop 22 = dktX3_common_1 := dk_seg dksX3_common_0 22 rfl rfl
theorem dX3_common_0 : decode cX3_common 0 = .ok (.iload_n 1, 1) := dk_27 (dk_at dksX3_common_0 0 rfl rfl)
theorem dX3_common_1 : decode cX3_common 1 = .ok (.istore_n 3, 1) := dk_62 (dk_at dksX3_common_0 1 rfl rfl)
theorem dX3_common_2 : decode cX3_common 2 = .ok (.iload_n 3, 1) := dk_29 (dk_at dksX3_common_0 2 rfl rfl)
theorem dX3_common_3 : decode cX3_common 3 = .ok (.ifCond .lt 26, 3) := dk_155 0 26 (dk_at dksX3_common_0 3 rfl rfl)
theorem dX3_common_6 : decode cX3_common 6 = .ok (.iload_n 3, 1) := dk_29 (dk_at dksX3_common_0 6 rfl rfl)
theorem dX3_common_7 : decode cX3_common 7 = .ok (.iload_n 2, 1) := dk_28 (dk_at dksX3_common_0 7 rfl rfl)
theorem dX3_common_8 : decode cX3_common 8 = .ok (.if_icmp .eq 21, 3) := dk_159 0 21 (dk_at dksX3_common_0 8 rfl rfl)
theorem dX3_common_11 : decode cX3_common 11 = .ok (.aload_n 0, 1) := dk_42 (dk_at dksX3_common_0 11 rfl rfl)
theorem dX3_common_12 : decode cX3_common 12 = .ok (.iload_n 3, 1) := dk_29 (dk_at dksX3_common_0 12 rfl rfl)
theorem dX3_common_13 : decode cX3_common 13 = .ok (.iload_n 2, 1) := dk_28 (dk_at dksX3_common_0 13 rfl rfl)
theorem dX3_common_14 : decode cX3_common 14 = .ok (.invokevirtual 134, 3) := dk_182 0 134 (dk_at dksX3_common_0 14 rfl rfl)
theorem dX3_common_17 : decode cX3_common 17 = .ok (.ifCond .ne 12, 3) := dk_154 0 12 (dk_at dksX3_common_0 17 rfl rfl)
theorem dX3_common_20 : decode cX3_common 20 = .ok (.aload_n 0, 1) := dk_42 (dk_at dksX3_common_0 20 rfl rfl)
theorem dX3_common_21 : decode cX3_common 21 = .ok (.iload_n 3, 1) := dk_29 (dk_at dksX3_common_0 21 rfl rfl)
theorem dX3_common_22 : decode cX3_common 22 = .ok (.invokevirtual 88, 3) := dk_182 0 88 (dk_at dksX3_common_1 0 rfl rfl)
theorem dX3_common_25 : decode cX3_common 25 = .ok (.istore_n 3, 1) := dk_62 (dk_at dksX3_common_1 3 rfl rfl)
theorem dX3_common_26 : decode cX3_common 26 = .ok (.goto (-24), 3) := dk_167 255 232 (dk_at dksX3_common_1 4 rfl rfl)
theorem dX3_common_29 : decode cX3_common 29 = .ok (.iload_n 3, 1) := dk_29 (dk_at dksX3_common_1 7 rfl rfl)
theorem dX3_common_30 : decode cX3_common 30 = .ok (.ireturn, 1) := dk_172 (dk_at dksX3_common_1 8 rfl rfl)
def dkwX3_distance_0 : List UInt8 := [42, 27, 28, 182, 0, 144, 153, 0, 7, 3, 167, 0, 9, 42, 27, 28, 182, 0, 147, 172]
abbrev dktX3_distance_0 : List UInt8 := dkwX3_distance_0 ++ []
theorem dksX3_distance_0 : cX3_distance.data.toList.drop 0 = dktX3_distance_0 := by decide +kernel
theorem dX3_distance_0 : decode cX3_distance 0 = .ok (.aload_n 0, 1) := dk_42 (dk_at dksX3_distance_0 0 rfl rfl)
theorem dX3_distance_1 : decode cX3_distance 1 = .ok (.iload_n 1, 1) := dk_27 (dk_at dksX3_distance_0 1 rfl rfl)
theorem dX3_distance_2 : decode cX3_distance 2 = .ok (.iload_n 2, 1) := dk_28 (dk_at dksX3_distance_0 2 rfl rfl)
theorem dX3_distance_3 : decode cX3_distance 3 = .ok (.invokevirtual 144, 3) := dk_182 0 144 (dk_at dksX3_distance_0 3 rfl rfl)
theorem dX3_distance_6 : decode cX3_distance 6 = .ok (.ifCond .eq 7, 3) := dk_153 0 7 (dk_at dksX3_distance_0 6 rfl rfl)
theorem dX3_distance_9 : decode cX3_distance 9 = .ok (.iconst 0, 1) := dk_3 (dk_at dksX3_distance_0 9 rfl rfl)
theorem dX3_distance_10 : decode cX3_distance 10 = .ok (.goto 9, 3) := dk_167 0 9 (dk_at dksX3_distance_0 10 rfl rfl)
theorem dX3_distance_13 : decode cX3_distance 13 = .ok (.aload_n 0, 1) := dk_42 (dk_at dksX3_distance_0 13 rfl rfl)
theorem dX3_distance_14 : decode cX3_distance 14 = .ok (.iload_n 1, 1) := dk_27 (dk_at dksX3_distance_0 14 rfl rfl)
theorem dX3_distance_15 : decode cX3_distance 15 = .ok (.iload_n 2, 1) := dk_28 (dk_at dksX3_distance_0 15 rfl rfl)
theorem dX3_distance_16 : decode cX3_distance 16 = .ok (.invokevirtual 147, 3) := dk_182 0 147 (dk_at dksX3_distance_0 16 rfl rfl)
theorem dX3_distance_19 : decode cX3_distance 19 = .ok (.ireturn, 1) := dk_172 (dk_at dksX3_distance_0 19 rfl rfl)
def dkwX3_apart_1 : List UInt8 := [5, 42, 42, 27, 28, 182, 0, 141, 182, 0, 131, 104, 100, 172]
abbrev dktX3_apart_1 : List UInt8 := dkwX3_apart_1 ++ []
def dkwX3_apart_0 : List UInt8 := [42, 27, 28, 182, 0, 141, 156, 0, 7, 2, 167, 0, 27, 42, 27, 182, 0, 131, 42, 28, 182, 0, 131, 96]
abbrev dktX3_apart_0 : List UInt8 := dkwX3_apart_0 ++ dktX3_apart_1
theorem dksX3_apart_0 : cX3_apart.data.toList.drop 0 = dktX3_apart_0 := by decide +kernel
theorem dksX3_apart_1 : cX3_apart.data.toList.drop 24 = dktX3_apart_1 := dk_seg dksX3_apart_0 24 rfl rfl
theorem dX3_apart_0 : decode cX3_apart 0 = .ok (.aload_n 0, 1) := dk_42 (dk_at dksX3_apart_0 0 rfl rfl)
theorem dX3_apart_1 : decode cX3_apart 1 = .ok (.iload_n 1, 1) := dk_27 (dk_at dksX3_apart_0 1 rfl rfl)
theorem dX3_apart_2 : decode cX3_apart 2 = .ok (.iload_n 2, 1) := dk_28 (dk_at dksX3_apart_0 2 rfl rfl)
theorem dX3_apart_3 : decode cX3_apart 3 = .ok (.invokevirtual 141, 3) := dk_182 0 141 (dk_at dksX3_apart_0 3 rfl rfl)
theorem dX3_apart_6 : decode cX3_apart 6 = .ok (.ifCond .ge 7, 3) := dk_156 0 7 (dk_at dksX3_apart_0 6 rfl rfl)
theorem dX3_apart_9 : decode cX3_apart 9 = .ok (.iconst (-1), 1) := dk_2 (dk_at dksX3_apart_0 9 rfl rfl)
theorem dX3_apart_10 : decode cX3_apart 10 = .ok (.goto 27, 3) := dk_167 0 27 (dk_at dksX3_apart_0 10 rfl rfl)
theorem dX3_apart_13 : decode cX3_apart 13 = .ok (.aload_n 0, 1) := dk_42 (dk_at dksX3_apart_0 13 rfl rfl)
theorem dX3_apart_14 : decode cX3_apart 14 = .ok (.iload_n 1, 1) := dk_27 (dk_at dksX3_apart_0 14 rfl rfl)
theorem dX3_apart_15 : decode cX3_apart 15 = .ok (.invokevirtual 131, 3) := dk_182 0 131 (dk_at dksX3_apart_0 15 rfl rfl)
theorem dX3_apart_18 : decode cX3_apart 18 = .ok (.aload_n 0, 1) := dk_42 (dk_at dksX3_apart_0 18 rfl rfl)
theorem dX3_apart_19 : decode cX3_apart 19 = .ok (.iload_n 2, 1) := dk_28 (dk_at dksX3_apart_0 19 rfl rfl)
theorem dX3_apart_20 : decode cX3_apart 20 = .ok (.invokevirtual 131, 3) := dk_182 0 131 (dk_at dksX3_apart_0 20 rfl rfl)
theorem dX3_apart_23 : decode cX3_apart 23 = .ok (.iadd, 1) := dk_96 (dk_at dksX3_apart_0 23 rfl rfl)
theorem dX3_apart_24 : decode cX3_apart 24 = .ok (.iconst 2, 1) := dk_5 (dk_at dksX3_apart_1 0 rfl rfl)
theorem dX3_apart_25 : decode cX3_apart 25 = .ok (.aload_n 0, 1) := dk_42 (dk_at dksX3_apart_1 1 rfl rfl)
theorem dX3_apart_26 : decode cX3_apart 26 = .ok (.aload_n 0, 1) := dk_42 (dk_at dksX3_apart_1 2 rfl rfl)
theorem dX3_apart_27 : decode cX3_apart 27 = .ok (.iload_n 1, 1) := dk_27 (dk_at dksX3_apart_1 3 rfl rfl)
theorem dX3_apart_28 : decode cX3_apart 28 = .ok (.iload_n 2, 1) := dk_28 (dk_at dksX3_apart_1 4 rfl rfl)
theorem dX3_apart_29 : decode cX3_apart 29 = .ok (.invokevirtual 141, 3) := dk_182 0 141 (dk_at dksX3_apart_1 5 rfl rfl)
theorem dX3_apart_32 : decode cX3_apart 32 = .ok (.invokevirtual 131, 3) := dk_182 0 131 (dk_at dksX3_apart_1 8 rfl rfl)
theorem dX3_apart_35 : decode cX3_apart 35 = .ok (.imul, 1) := dk_104 (dk_at dksX3_apart_1 11 rfl rfl)
theorem dX3_apart_36 : decode cX3_apart 36 = .ok (.isub, 1) := dk_100 (dk_at dksX3_apart_1 12 rfl rfl)
theorem dX3_apart_37 : decode cX3_apart 37 = .ok (.ireturn, 1) := dk_172 (dk_at dksX3_apart_1 13 rfl rfl)
def dkwX3_distanceBySearch_0 : List UInt8 := [42, 27, 28, 182, 0, 144, 153, 0, 7, 3, 167, 0, 9, 42, 27, 28, 182, 0, 147, 172]
abbrev dktX3_distanceBySearch_0 : List UInt8 := dkwX3_distanceBySearch_0 ++ []
theorem dksX3_distanceBySearch_0 : cX3_distanceBySearch.data.toList.drop 0 = dktX3_distanceBySearch_0 := by decide +kernel
theorem dX3_distanceBySearch_0 : decode cX3_distanceBySearch 0 = .ok (.aload_n 0, 1) := dk_42 (dk_at dksX3_distanceBySearch_0 0 rfl rfl)
theorem dX3_distanceBySearch_1 : decode cX3_distanceBySearch 1 = .ok (.iload_n 1, 1) := dk_27 (dk_at dksX3_distanceBySearch_0 1 rfl rfl)
theorem dX3_distanceBySearch_2 : decode cX3_distanceBySearch 2 = .ok (.iload_n 2, 1) := dk_28 (dk_at dksX3_distanceBySearch_0 2 rfl rfl)
theorem dX3_distanceBySearch_3 : decode cX3_distanceBySearch 3 = .ok (.invokevirtual 144, 3) := dk_182 0 144 (dk_at dksX3_distanceBySearch_0 3 rfl rfl)
theorem dX3_distanceBySearch_6 : decode cX3_distanceBySearch 6 = .ok (.ifCond .eq 7, 3) := dk_153 0 7 (dk_at dksX3_distanceBySearch_0 6 rfl rfl)
theorem dX3_distanceBySearch_9 : decode cX3_distanceBySearch 9 = .ok (.iconst 0, 1) := dk_3 (dk_at dksX3_distanceBySearch_0 9 rfl rfl)
theorem dX3_distanceBySearch_10 : decode cX3_distanceBySearch 10 = .ok (.goto 9, 3) := dk_167 0 9 (dk_at dksX3_distanceBySearch_0 10 rfl rfl)
theorem dX3_distanceBySearch_13 : decode cX3_distanceBySearch 13 = .ok (.aload_n 0, 1) := dk_42 (dk_at dksX3_distanceBySearch_0 13 rfl rfl)
theorem dX3_distanceBySearch_14 : decode cX3_distanceBySearch 14 = .ok (.iload_n 1, 1) := dk_27 (dk_at dksX3_distanceBySearch_0 14 rfl rfl)
theorem dX3_distanceBySearch_15 : decode cX3_distanceBySearch 15 = .ok (.iload_n 2, 1) := dk_28 (dk_at dksX3_distanceBySearch_0 15 rfl rfl)
theorem dX3_distanceBySearch_16 : decode cX3_distanceBySearch 16 = .ok (.invokevirtual 147, 3) := dk_182 0 147 (dk_at dksX3_distanceBySearch_0 16 rfl rfl)
theorem dX3_distanceBySearch_19 : decode cX3_distanceBySearch 19 = .ok (.ireturn, 1) := dk_172 (dk_at dksX3_distanceBySearch_0 19 rfl rfl)
def dkwX3_heirOf_0 : List UInt8 := [42, 27, 182, 0, 150, 153, 0, 7, 3, 167, 0, 8, 42, 27, 182, 0, 104, 172]
abbrev dktX3_heirOf_0 : List UInt8 := dkwX3_heirOf_0 ++ []
theorem dksX3_heirOf_0 : cX3_heirOf.data.toList.drop 0 = dktX3_heirOf_0 := by decide +kernel
theorem dX3_heirOf_0 : decode cX3_heirOf 0 = .ok (.aload_n 0, 1) := dk_42 (dk_at dksX3_heirOf_0 0 rfl rfl)
theorem dX3_heirOf_1 : decode cX3_heirOf 1 = .ok (.iload_n 1, 1) := dk_27 (dk_at dksX3_heirOf_0 1 rfl rfl)
theorem dX3_heirOf_2 : decode cX3_heirOf 2 = .ok (.invokevirtual 150, 3) := dk_182 0 150 (dk_at dksX3_heirOf_0 2 rfl rfl)
theorem dX3_heirOf_5 : decode cX3_heirOf 5 = .ok (.ifCond .eq 7, 3) := dk_153 0 7 (dk_at dksX3_heirOf_0 5 rfl rfl)
theorem dX3_heirOf_8 : decode cX3_heirOf 8 = .ok (.iconst 0, 1) := dk_3 (dk_at dksX3_heirOf_0 8 rfl rfl)
theorem dX3_heirOf_9 : decode cX3_heirOf 9 = .ok (.goto 8, 3) := dk_167 0 8 (dk_at dksX3_heirOf_0 9 rfl rfl)
theorem dX3_heirOf_12 : decode cX3_heirOf 12 = .ok (.aload_n 0, 1) := dk_42 (dk_at dksX3_heirOf_0 12 rfl rfl)
theorem dX3_heirOf_13 : decode cX3_heirOf 13 = .ok (.iload_n 1, 1) := dk_27 (dk_at dksX3_heirOf_0 13 rfl rfl)
theorem dX3_heirOf_14 : decode cX3_heirOf 14 = .ok (.invokevirtual 104, 3) := dk_182 0 104 (dk_at dksX3_heirOf_0 14 rfl rfl)
theorem dX3_heirOf_17 : decode cX3_heirOf 17 = .ok (.ireturn, 1) := dk_172 (dk_at dksX3_heirOf_0 17 rfl rfl)
def dkwX3_isHeirless_1 : List UInt8 := [167, 0, 4, 3, 182, 0, 82, 172]
abbrev dktX3_isHeirless_1 : List UInt8 := dkwX3_isHeirless_1 ++ []
def dkwX3_isHeirless_0 : List UInt8 := [42, 42, 27, 182, 0, 66, 154, 0, 7, 4, 167, 0, 16, 42, 27, 182, 0, 104, 156, 0, 7, 5]
abbrev dktX3_isHeirless_0 : List UInt8 := dkwX3_isHeirless_0 ++ dktX3_isHeirless_1
theorem dksX3_isHeirless_0 : cX3_isHeirless.data.toList.drop 0 = dktX3_isHeirless_0 := by decide +kernel
theorem dksX3_isHeirless_1 : cX3_isHeirless.data.toList.drop 22 = dktX3_isHeirless_1 := dk_seg dksX3_isHeirless_0 22 rfl rfl
theorem dX3_isHeirless_0 : decode cX3_isHeirless 0 = .ok (.aload_n 0, 1) := dk_42 (dk_at dksX3_isHeirless_0 0 rfl rfl)
theorem dX3_isHeirless_1 : decode cX3_isHeirless 1 = .ok (.aload_n 0, 1) := dk_42 (dk_at dksX3_isHeirless_0 1 rfl rfl)
theorem dX3_isHeirless_2 : decode cX3_isHeirless 2 = .ok (.iload_n 1, 1) := dk_27 (dk_at dksX3_isHeirless_0 2 rfl rfl)
theorem dX3_isHeirless_3 : decode cX3_isHeirless 3 = .ok (.invokevirtual 66, 3) := dk_182 0 66 (dk_at dksX3_isHeirless_0 3 rfl rfl)
theorem dX3_isHeirless_6 : decode cX3_isHeirless 6 = .ok (.ifCond .ne 7, 3) := dk_154 0 7 (dk_at dksX3_isHeirless_0 6 rfl rfl)
theorem dX3_isHeirless_9 : decode cX3_isHeirless 9 = .ok (.iconst 1, 1) := dk_4 (dk_at dksX3_isHeirless_0 9 rfl rfl)
theorem dX3_isHeirless_10 : decode cX3_isHeirless 10 = .ok (.goto 16, 3) := dk_167 0 16 (dk_at dksX3_isHeirless_0 10 rfl rfl)
theorem dX3_isHeirless_13 : decode cX3_isHeirless 13 = .ok (.aload_n 0, 1) := dk_42 (dk_at dksX3_isHeirless_0 13 rfl rfl)
theorem dX3_isHeirless_14 : decode cX3_isHeirless 14 = .ok (.iload_n 1, 1) := dk_27 (dk_at dksX3_isHeirless_0 14 rfl rfl)
theorem dX3_isHeirless_15 : decode cX3_isHeirless 15 = .ok (.invokevirtual 104, 3) := dk_182 0 104 (dk_at dksX3_isHeirless_0 15 rfl rfl)
theorem dX3_isHeirless_18 : decode cX3_isHeirless 18 = .ok (.ifCond .ge 7, 3) := dk_156 0 7 (dk_at dksX3_isHeirless_0 18 rfl rfl)
theorem dX3_isHeirless_21 : decode cX3_isHeirless 21 = .ok (.iconst 2, 1) := dk_5 (dk_at dksX3_isHeirless_0 21 rfl rfl)
theorem dX3_isHeirless_22 : decode cX3_isHeirless 22 = .ok (.goto 4, 3) := dk_167 0 4 (dk_at dksX3_isHeirless_1 0 rfl rfl)
theorem dX3_isHeirless_25 : decode cX3_isHeirless 25 = .ok (.iconst 0, 1) := dk_3 (dk_at dksX3_isHeirless_1 3 rfl rfl)
theorem dX3_isHeirless_26 : decode cX3_isHeirless 26 = .ok (.invokevirtual 82, 3) := dk_182 0 82 (dk_at dksX3_isHeirless_1 4 rfl rfl)
theorem dX3_isHeirless_29 : decode cX3_isHeirless 29 = .ok (.ireturn, 1) := dk_172 (dk_at dksX3_isHeirless_1 7 rfl rfl)
def dkwX3_heirByComparison_0 : List UInt8 := [42, 27, 182, 0, 150, 153, 0, 7, 3, 167, 0, 8, 42, 27, 182, 0, 104, 172]
abbrev dktX3_heirByComparison_0 : List UInt8 := dkwX3_heirByComparison_0 ++ []
theorem dksX3_heirByComparison_0 : cX3_heirByComparison.data.toList.drop 0 = dktX3_heirByComparison_0 := by decide +kernel
theorem dX3_heirByComparison_0 : decode cX3_heirByComparison 0 = .ok (.aload_n 0, 1) := dk_42 (dk_at dksX3_heirByComparison_0 0 rfl rfl)
theorem dX3_heirByComparison_1 : decode cX3_heirByComparison 1 = .ok (.iload_n 1, 1) := dk_27 (dk_at dksX3_heirByComparison_0 1 rfl rfl)
theorem dX3_heirByComparison_2 : decode cX3_heirByComparison 2 = .ok (.invokevirtual 150, 3) := dk_182 0 150 (dk_at dksX3_heirByComparison_0 2 rfl rfl)
theorem dX3_heirByComparison_5 : decode cX3_heirByComparison 5 = .ok (.ifCond .eq 7, 3) := dk_153 0 7 (dk_at dksX3_heirByComparison_0 5 rfl rfl)
theorem dX3_heirByComparison_8 : decode cX3_heirByComparison 8 = .ok (.iconst 0, 1) := dk_3 (dk_at dksX3_heirByComparison_0 8 rfl rfl)
theorem dX3_heirByComparison_9 : decode cX3_heirByComparison 9 = .ok (.goto 8, 3) := dk_167 0 8 (dk_at dksX3_heirByComparison_0 9 rfl rfl)
theorem dX3_heirByComparison_12 : decode cX3_heirByComparison 12 = .ok (.aload_n 0, 1) := dk_42 (dk_at dksX3_heirByComparison_0 12 rfl rfl)
theorem dX3_heirByComparison_13 : decode cX3_heirByComparison 13 = .ok (.iload_n 1, 1) := dk_27 (dk_at dksX3_heirByComparison_0 13 rfl rfl)
theorem dX3_heirByComparison_14 : decode cX3_heirByComparison 14 = .ok (.invokevirtual 104, 3) := dk_182 0 104 (dk_at dksX3_heirByComparison_0 14 rfl rfl)
theorem dX3_heirByComparison_17 : decode cX3_heirByComparison 17 = .ok (.ireturn, 1) := dk_172 (dk_at dksX3_heirByComparison_0 17 rfl rfl)
def dkwX3_directHeirOf_1 : List UInt8 := [167, 0, 4, 3, 182, 0, 82, 153, 0, 7, 3, 167, 0, 9, 42, 27, 27, 182, 0, 98, 172]
abbrev dktX3_directHeirOf_1 : List UInt8 := dkwX3_directHeirOf_1 ++ []
def dkwX3_directHeirOf_0 : List UInt8 := [42, 42, 27, 182, 0, 66, 154, 0, 7, 4, 167, 0, 17, 42, 27, 27, 182, 0, 98, 156, 0, 7, 5]
abbrev dktX3_directHeirOf_0 : List UInt8 := dkwX3_directHeirOf_0 ++ dktX3_directHeirOf_1
theorem dksX3_directHeirOf_0 : cX3_directHeirOf.data.toList.drop 0 = dktX3_directHeirOf_0 := by decide +kernel
theorem dksX3_directHeirOf_1 : cX3_directHeirOf.data.toList.drop 23 = dktX3_directHeirOf_1 := dk_seg dksX3_directHeirOf_0 23 rfl rfl
theorem dX3_directHeirOf_0 : decode cX3_directHeirOf 0 = .ok (.aload_n 0, 1) := dk_42 (dk_at dksX3_directHeirOf_0 0 rfl rfl)
theorem dX3_directHeirOf_1 : decode cX3_directHeirOf 1 = .ok (.aload_n 0, 1) := dk_42 (dk_at dksX3_directHeirOf_0 1 rfl rfl)
theorem dX3_directHeirOf_2 : decode cX3_directHeirOf 2 = .ok (.iload_n 1, 1) := dk_27 (dk_at dksX3_directHeirOf_0 2 rfl rfl)
theorem dX3_directHeirOf_3 : decode cX3_directHeirOf 3 = .ok (.invokevirtual 66, 3) := dk_182 0 66 (dk_at dksX3_directHeirOf_0 3 rfl rfl)
theorem dX3_directHeirOf_6 : decode cX3_directHeirOf 6 = .ok (.ifCond .ne 7, 3) := dk_154 0 7 (dk_at dksX3_directHeirOf_0 6 rfl rfl)
theorem dX3_directHeirOf_9 : decode cX3_directHeirOf 9 = .ok (.iconst 1, 1) := dk_4 (dk_at dksX3_directHeirOf_0 9 rfl rfl)
theorem dX3_directHeirOf_10 : decode cX3_directHeirOf 10 = .ok (.goto 17, 3) := dk_167 0 17 (dk_at dksX3_directHeirOf_0 10 rfl rfl)
theorem dX3_directHeirOf_13 : decode cX3_directHeirOf 13 = .ok (.aload_n 0, 1) := dk_42 (dk_at dksX3_directHeirOf_0 13 rfl rfl)
theorem dX3_directHeirOf_14 : decode cX3_directHeirOf 14 = .ok (.iload_n 1, 1) := dk_27 (dk_at dksX3_directHeirOf_0 14 rfl rfl)
theorem dX3_directHeirOf_15 : decode cX3_directHeirOf 15 = .ok (.iload_n 1, 1) := dk_27 (dk_at dksX3_directHeirOf_0 15 rfl rfl)
theorem dX3_directHeirOf_16 : decode cX3_directHeirOf 16 = .ok (.invokevirtual 98, 3) := dk_182 0 98 (dk_at dksX3_directHeirOf_0 16 rfl rfl)
theorem dX3_directHeirOf_19 : decode cX3_directHeirOf 19 = .ok (.ifCond .ge 7, 3) := dk_156 0 7 (dk_at dksX3_directHeirOf_0 19 rfl rfl)
theorem dX3_directHeirOf_22 : decode cX3_directHeirOf 22 = .ok (.iconst 2, 1) := dk_5 (dk_at dksX3_directHeirOf_0 22 rfl rfl)
theorem dX3_directHeirOf_23 : decode cX3_directHeirOf 23 = .ok (.goto 4, 3) := dk_167 0 4 (dk_at dksX3_directHeirOf_1 0 rfl rfl)
theorem dX3_directHeirOf_26 : decode cX3_directHeirOf 26 = .ok (.iconst 0, 1) := dk_3 (dk_at dksX3_directHeirOf_1 3 rfl rfl)
theorem dX3_directHeirOf_27 : decode cX3_directHeirOf 27 = .ok (.invokevirtual 82, 3) := dk_182 0 82 (dk_at dksX3_directHeirOf_1 4 rfl rfl)
theorem dX3_directHeirOf_30 : decode cX3_directHeirOf 30 = .ok (.ifCond .eq 7, 3) := dk_153 0 7 (dk_at dksX3_directHeirOf_1 7 rfl rfl)
theorem dX3_directHeirOf_33 : decode cX3_directHeirOf 33 = .ok (.iconst 0, 1) := dk_3 (dk_at dksX3_directHeirOf_1 10 rfl rfl)
theorem dX3_directHeirOf_34 : decode cX3_directHeirOf 34 = .ok (.goto 9, 3) := dk_167 0 9 (dk_at dksX3_directHeirOf_1 11 rfl rfl)
theorem dX3_directHeirOf_37 : decode cX3_directHeirOf 37 = .ok (.aload_n 0, 1) := dk_42 (dk_at dksX3_directHeirOf_1 14 rfl rfl)
theorem dX3_directHeirOf_38 : decode cX3_directHeirOf 38 = .ok (.iload_n 1, 1) := dk_27 (dk_at dksX3_directHeirOf_1 15 rfl rfl)
theorem dX3_directHeirOf_39 : decode cX3_directHeirOf 39 = .ok (.iload_n 1, 1) := dk_27 (dk_at dksX3_directHeirOf_1 16 rfl rfl)
theorem dX3_directHeirOf_40 : decode cX3_directHeirOf 40 = .ok (.invokevirtual 98, 3) := dk_182 0 98 (dk_at dksX3_directHeirOf_1 17 rfl rfl)
theorem dX3_directHeirOf_43 : decode cX3_directHeirOf 43 = .ok (.ireturn, 1) := dk_172 (dk_at dksX3_directHeirOf_1 20 rfl rfl)
def dkwX3_successionPosition_2 : List UInt8 := [28, 182, 0, 95, 54, 4, 167, 255, 238, 29, 172]
abbrev dktX3_successionPosition_2 : List UInt8 := dkwX3_successionPosition_2 ++ []
def dkwX3_successionPosition_1 : List UInt8 := [182, 0, 88, 61, 167, 255, 242, 3, 62, 28, 54, 4, 21, 4, 27, 159, 0, 18, 132, 3, 1, 42, 21, 4]
abbrev dktX3_successionPosition_1 : List UInt8 := dkwX3_successionPosition_1 ++ dktX3_successionPosition_2
def dkwX3_successionPosition_0 : List UInt8 := [42, 27, 182, 0, 128, 153, 0, 5, 3, 172, 27, 61, 42, 28, 182, 0, 88, 155, 0, 12, 42, 28]
abbrev dktX3_successionPosition_0 : List UInt8 := dkwX3_successionPosition_0 ++ dktX3_successionPosition_1
theorem dksX3_successionPosition_0 : cX3_successionPosition.data.toList.drop 0 = dktX3_successionPosition_0 := by decide +kernel
theorem dksX3_successionPosition_1 : cX3_successionPosition.data.toList.drop 22 = dktX3_successionPosition_1 := dk_seg dksX3_successionPosition_0 22 rfl rfl
theorem dksX3_successionPosition_2 : cX3_successionPosition.data.toList.drop 46 = dktX3_successionPosition_2 := dk_seg dksX3_successionPosition_1 24 rfl rfl
theorem dX3_successionPosition_0 : decode cX3_successionPosition 0 = .ok (.aload_n 0, 1) := dk_42 (dk_at dksX3_successionPosition_0 0 rfl rfl)
theorem dX3_successionPosition_1 : decode cX3_successionPosition 1 = .ok (.iload_n 1, 1) := dk_27 (dk_at dksX3_successionPosition_0 1 rfl rfl)
theorem dX3_successionPosition_2 : decode cX3_successionPosition 2 = .ok (.invokevirtual 128, 3) := dk_182 0 128 (dk_at dksX3_successionPosition_0 2 rfl rfl)
theorem dX3_successionPosition_5 : decode cX3_successionPosition 5 = .ok (.ifCond .eq 5, 3) := dk_153 0 5 (dk_at dksX3_successionPosition_0 5 rfl rfl)
theorem dX3_successionPosition_8 : decode cX3_successionPosition 8 = .ok (.iconst 0, 1) := dk_3 (dk_at dksX3_successionPosition_0 8 rfl rfl)
theorem dX3_successionPosition_9 : decode cX3_successionPosition 9 = .ok (.ireturn, 1) := dk_172 (dk_at dksX3_successionPosition_0 9 rfl rfl)
theorem dX3_successionPosition_10 : decode cX3_successionPosition 10 = .ok (.iload_n 1, 1) := dk_27 (dk_at dksX3_successionPosition_0 10 rfl rfl)
theorem dX3_successionPosition_11 : decode cX3_successionPosition 11 = .ok (.istore_n 2, 1) := dk_61 (dk_at dksX3_successionPosition_0 11 rfl rfl)
theorem dX3_successionPosition_12 : decode cX3_successionPosition 12 = .ok (.aload_n 0, 1) := dk_42 (dk_at dksX3_successionPosition_0 12 rfl rfl)
theorem dX3_successionPosition_13 : decode cX3_successionPosition 13 = .ok (.iload_n 2, 1) := dk_28 (dk_at dksX3_successionPosition_0 13 rfl rfl)
theorem dX3_successionPosition_14 : decode cX3_successionPosition 14 = .ok (.invokevirtual 88, 3) := dk_182 0 88 (dk_at dksX3_successionPosition_0 14 rfl rfl)
theorem dX3_successionPosition_17 : decode cX3_successionPosition 17 = .ok (.ifCond .lt 12, 3) := dk_155 0 12 (dk_at dksX3_successionPosition_0 17 rfl rfl)
theorem dX3_successionPosition_20 : decode cX3_successionPosition 20 = .ok (.aload_n 0, 1) := dk_42 (dk_at dksX3_successionPosition_0 20 rfl rfl)
theorem dX3_successionPosition_21 : decode cX3_successionPosition 21 = .ok (.iload_n 2, 1) := dk_28 (dk_at dksX3_successionPosition_0 21 rfl rfl)
theorem dX3_successionPosition_22 : decode cX3_successionPosition 22 = .ok (.invokevirtual 88, 3) := dk_182 0 88 (dk_at dksX3_successionPosition_1 0 rfl rfl)
theorem dX3_successionPosition_25 : decode cX3_successionPosition 25 = .ok (.istore_n 2, 1) := dk_61 (dk_at dksX3_successionPosition_1 3 rfl rfl)
theorem dX3_successionPosition_26 : decode cX3_successionPosition 26 = .ok (.goto (-14), 3) := dk_167 255 242 (dk_at dksX3_successionPosition_1 4 rfl rfl)
theorem dX3_successionPosition_29 : decode cX3_successionPosition 29 = .ok (.iconst 0, 1) := dk_3 (dk_at dksX3_successionPosition_1 7 rfl rfl)
theorem dX3_successionPosition_30 : decode cX3_successionPosition 30 = .ok (.istore_n 3, 1) := dk_62 (dk_at dksX3_successionPosition_1 8 rfl rfl)
theorem dX3_successionPosition_31 : decode cX3_successionPosition 31 = .ok (.iload_n 2, 1) := dk_28 (dk_at dksX3_successionPosition_1 9 rfl rfl)
theorem dX3_successionPosition_32 : decode cX3_successionPosition 32 = .ok (.istore 4, 2) := dk_54 4 (dk_at dksX3_successionPosition_1 10 rfl rfl)
theorem dX3_successionPosition_34 : decode cX3_successionPosition 34 = .ok (.iload 4, 2) := dk_21 4 (dk_at dksX3_successionPosition_1 12 rfl rfl)
theorem dX3_successionPosition_36 : decode cX3_successionPosition 36 = .ok (.iload_n 1, 1) := dk_27 (dk_at dksX3_successionPosition_1 14 rfl rfl)
theorem dX3_successionPosition_37 : decode cX3_successionPosition 37 = .ok (.if_icmp .eq 18, 3) := dk_159 0 18 (dk_at dksX3_successionPosition_1 15 rfl rfl)
theorem dX3_successionPosition_40 : decode cX3_successionPosition 40 = .ok (.iinc 3 1, 3) := dk_132 3 1 (dk_at dksX3_successionPosition_1 18 rfl rfl)
theorem dX3_successionPosition_43 : decode cX3_successionPosition 43 = .ok (.aload_n 0, 1) := dk_42 (dk_at dksX3_successionPosition_1 21 rfl rfl)
theorem dX3_successionPosition_44 : decode cX3_successionPosition 44 = .ok (.iload 4, 2) := dk_21 4 (dk_at dksX3_successionPosition_1 22 rfl rfl)
theorem dX3_successionPosition_46 : decode cX3_successionPosition 46 = .ok (.iload_n 2, 1) := dk_28 (dk_at dksX3_successionPosition_2 0 rfl rfl)
theorem dX3_successionPosition_47 : decode cX3_successionPosition 47 = .ok (.invokevirtual 95, 3) := dk_182 0 95 (dk_at dksX3_successionPosition_2 1 rfl rfl)
theorem dX3_successionPosition_50 : decode cX3_successionPosition 50 = .ok (.istore 4, 2) := dk_54 4 (dk_at dksX3_successionPosition_2 4 rfl rfl)
theorem dX3_successionPosition_52 : decode cX3_successionPosition 52 = .ok (.goto (-18), 3) := dk_167 255 238 (dk_at dksX3_successionPosition_2 6 rfl rfl)
theorem dX3_successionPosition_55 : decode cX3_successionPosition 55 = .ok (.iload_n 3, 1) := dk_29 (dk_at dksX3_successionPosition_2 9 rfl rfl)
theorem dX3_successionPosition_56 : decode cX3_successionPosition 56 = .ok (.ireturn, 1) := dk_172 (dk_at dksX3_successionPosition_2 10 rfl rfl)
def dkwX3_addHabit_7 : List UInt8 := [21, 5, 172]
abbrev dktX3_addHabit_7 : List UInt8 := dkwX3_addHabit_7 ++ []
def dkwX3_addHabit_6 : List UInt8 := [21, 5, 3, 27, 182, 0, 114, 42, 21, 5, 4, 21, 4, 182, 0, 114, 42, 21, 5, 5, 29, 182, 0, 114]
abbrev dktX3_addHabit_6 : List UInt8 := dkwX3_addHabit_6 ++ dktX3_addHabit_7
def dkwX3_addHabit_5 : List UInt8 := [180, 0, 7, 4, 46, 54, 5, 42, 180, 0, 7, 4, 92, 46, 4, 96, 79, 42, 21, 5, 182, 0, 107, 42]
abbrev dktX3_addHabit_5 : List UInt8 := dkwX3_addHabit_5 ++ dktX3_addHabit_6
def dkwX3_addHabit_4 : List UInt8 := [16, 20, 160, 0, 12, 42, 6, 5, 16, 20, 182, 0, 70, 172, 42, 42, 180, 0, 7, 182, 0, 74, 42]
abbrev dktX3_addHabit_4 : List UInt8 := dkwX3_addHabit_4 ++ dktX3_addHabit_5
def dkwX3_addHabit_3 : List UInt8 := [155, 0, 17, 42, 6, 7, 42, 27, 21, 4, 182, 0, 111, 182, 0, 70, 172, 42, 180, 0, 7, 4, 46]
abbrev dktX3_addHabit_3 : List UInt8 := dkwX3_addHabit_3 ++ dktX3_addHabit_4
def dkwX3_addHabit_2 : List UInt8 := [27, 182, 0, 85, 154, 0, 11, 42, 6, 6, 27, 182, 0, 70, 172, 42, 27, 21, 4, 182, 0, 111]
abbrev dktX3_addHabit_2 : List UInt8 := dkwX3_addHabit_2 ++ dktX3_addHabit_3
def dkwX3_addHabit_1 : List UInt8 := [29, 4, 16, 9, 184, 0, 62, 153, 0, 7, 3, 167, 0, 4, 5, 182, 0, 82, 153, 0, 5, 3, 172, 42]
abbrev dktX3_addHabit_1 : List UInt8 := dkwX3_addHabit_1 ++ dktX3_addHabit_2
def dkwX3_addHabit_0 : List UInt8 := [28, 184, 0, 153, 54, 4, 42, 42, 27, 182, 0, 66, 154, 0, 7, 4, 167, 0, 23, 21, 4, 155, 0, 17]
abbrev dktX3_addHabit_0 : List UInt8 := dkwX3_addHabit_0 ++ dktX3_addHabit_1
theorem dksX3_addHabit_0 : cX3_addHabit.data.toList.drop 0 = dktX3_addHabit_0 := by decide +kernel
theorem dksX3_addHabit_1 : cX3_addHabit.data.toList.drop 24 = dktX3_addHabit_1 := dk_seg dksX3_addHabit_0 24 rfl rfl
theorem dksX3_addHabit_2 : cX3_addHabit.data.toList.drop 48 = dktX3_addHabit_2 := dk_seg dksX3_addHabit_1 24 rfl rfl
theorem dksX3_addHabit_3 : cX3_addHabit.data.toList.drop 70 = dktX3_addHabit_3 := dk_seg dksX3_addHabit_2 22 rfl rfl
theorem dksX3_addHabit_4 : cX3_addHabit.data.toList.drop 93 = dktX3_addHabit_4 := dk_seg dksX3_addHabit_3 23 rfl rfl
theorem dksX3_addHabit_5 : cX3_addHabit.data.toList.drop 116 = dktX3_addHabit_5 := dk_seg dksX3_addHabit_4 23 rfl rfl
theorem dksX3_addHabit_6 : cX3_addHabit.data.toList.drop 140 = dktX3_addHabit_6 := dk_seg dksX3_addHabit_5 24 rfl rfl
theorem dksX3_addHabit_7 : cX3_addHabit.data.toList.drop 164 = dktX3_addHabit_7 := dk_seg dksX3_addHabit_6 24 rfl rfl
theorem dX3_addHabit_0 : decode cX3_addHabit 0 = .ok (.iload_n 2, 1) := dk_28 (dk_at dksX3_addHabit_0 0 rfl rfl)
theorem dX3_addHabit_1 : decode cX3_addHabit 1 = .ok (.invokestatic 153, 3) := dk_184 0 153 (dk_at dksX3_addHabit_0 1 rfl rfl)
theorem dX3_addHabit_4 : decode cX3_addHabit 4 = .ok (.istore 4, 2) := dk_54 4 (dk_at dksX3_addHabit_0 4 rfl rfl)
theorem dX3_addHabit_6 : decode cX3_addHabit 6 = .ok (.aload_n 0, 1) := dk_42 (dk_at dksX3_addHabit_0 6 rfl rfl)
theorem dX3_addHabit_7 : decode cX3_addHabit 7 = .ok (.aload_n 0, 1) := dk_42 (dk_at dksX3_addHabit_0 7 rfl rfl)
theorem dX3_addHabit_8 : decode cX3_addHabit 8 = .ok (.iload_n 1, 1) := dk_27 (dk_at dksX3_addHabit_0 8 rfl rfl)
theorem dX3_addHabit_9 : decode cX3_addHabit 9 = .ok (.invokevirtual 66, 3) := dk_182 0 66 (dk_at dksX3_addHabit_0 9 rfl rfl)
theorem dX3_addHabit_12 : decode cX3_addHabit 12 = .ok (.ifCond .ne 7, 3) := dk_154 0 7 (dk_at dksX3_addHabit_0 12 rfl rfl)
theorem dX3_addHabit_15 : decode cX3_addHabit 15 = .ok (.iconst 1, 1) := dk_4 (dk_at dksX3_addHabit_0 15 rfl rfl)
theorem dX3_addHabit_16 : decode cX3_addHabit 16 = .ok (.goto 23, 3) := dk_167 0 23 (dk_at dksX3_addHabit_0 16 rfl rfl)
theorem dX3_addHabit_19 : decode cX3_addHabit 19 = .ok (.iload 4, 2) := dk_21 4 (dk_at dksX3_addHabit_0 19 rfl rfl)
theorem dX3_addHabit_21 : decode cX3_addHabit 21 = .ok (.ifCond .lt 17, 3) := dk_155 0 17 (dk_at dksX3_addHabit_0 21 rfl rfl)
theorem dX3_addHabit_24 : decode cX3_addHabit 24 = .ok (.iload_n 3, 1) := dk_29 (dk_at dksX3_addHabit_1 0 rfl rfl)
theorem dX3_addHabit_25 : decode cX3_addHabit 25 = .ok (.iconst 1, 1) := dk_4 (dk_at dksX3_addHabit_1 1 rfl rfl)
theorem dX3_addHabit_26 : decode cX3_addHabit 26 = .ok (.bipush 9, 2) := dk_16 9 (dk_at dksX3_addHabit_1 2 rfl rfl)
theorem dX3_addHabit_28 : decode cX3_addHabit 28 = .ok (.invokestatic 62, 3) := dk_184 0 62 (dk_at dksX3_addHabit_1 4 rfl rfl)
theorem dX3_addHabit_31 : decode cX3_addHabit 31 = .ok (.ifCond .eq 7, 3) := dk_153 0 7 (dk_at dksX3_addHabit_1 7 rfl rfl)
theorem dX3_addHabit_34 : decode cX3_addHabit 34 = .ok (.iconst 0, 1) := dk_3 (dk_at dksX3_addHabit_1 10 rfl rfl)
theorem dX3_addHabit_35 : decode cX3_addHabit 35 = .ok (.goto 4, 3) := dk_167 0 4 (dk_at dksX3_addHabit_1 11 rfl rfl)
theorem dX3_addHabit_38 : decode cX3_addHabit 38 = .ok (.iconst 2, 1) := dk_5 (dk_at dksX3_addHabit_1 14 rfl rfl)
theorem dX3_addHabit_39 : decode cX3_addHabit 39 = .ok (.invokevirtual 82, 3) := dk_182 0 82 (dk_at dksX3_addHabit_1 15 rfl rfl)
theorem dX3_addHabit_42 : decode cX3_addHabit 42 = .ok (.ifCond .eq 5, 3) := dk_153 0 5 (dk_at dksX3_addHabit_1 18 rfl rfl)
theorem dX3_addHabit_45 : decode cX3_addHabit 45 = .ok (.iconst 0, 1) := dk_3 (dk_at dksX3_addHabit_1 21 rfl rfl)
theorem dX3_addHabit_46 : decode cX3_addHabit 46 = .ok (.ireturn, 1) := dk_172 (dk_at dksX3_addHabit_1 22 rfl rfl)
theorem dX3_addHabit_47 : decode cX3_addHabit 47 = .ok (.aload_n 0, 1) := dk_42 (dk_at dksX3_addHabit_1 23 rfl rfl)
theorem dX3_addHabit_48 : decode cX3_addHabit 48 = .ok (.iload_n 1, 1) := dk_27 (dk_at dksX3_addHabit_2 0 rfl rfl)
theorem dX3_addHabit_49 : decode cX3_addHabit 49 = .ok (.invokevirtual 85, 3) := dk_182 0 85 (dk_at dksX3_addHabit_2 1 rfl rfl)
theorem dX3_addHabit_52 : decode cX3_addHabit 52 = .ok (.ifCond .ne 11, 3) := dk_154 0 11 (dk_at dksX3_addHabit_2 4 rfl rfl)
theorem dX3_addHabit_55 : decode cX3_addHabit 55 = .ok (.aload_n 0, 1) := dk_42 (dk_at dksX3_addHabit_2 7 rfl rfl)
theorem dX3_addHabit_56 : decode cX3_addHabit 56 = .ok (.iconst 3, 1) := dk_6 (dk_at dksX3_addHabit_2 8 rfl rfl)
theorem dX3_addHabit_57 : decode cX3_addHabit 57 = .ok (.iconst 3, 1) := dk_6 (dk_at dksX3_addHabit_2 9 rfl rfl)
theorem dX3_addHabit_58 : decode cX3_addHabit 58 = .ok (.iload_n 1, 1) := dk_27 (dk_at dksX3_addHabit_2 10 rfl rfl)
theorem dX3_addHabit_59 : decode cX3_addHabit 59 = .ok (.invokevirtual 70, 3) := dk_182 0 70 (dk_at dksX3_addHabit_2 11 rfl rfl)
theorem dX3_addHabit_62 : decode cX3_addHabit 62 = .ok (.ireturn, 1) := dk_172 (dk_at dksX3_addHabit_2 14 rfl rfl)
theorem dX3_addHabit_63 : decode cX3_addHabit 63 = .ok (.aload_n 0, 1) := dk_42 (dk_at dksX3_addHabit_2 15 rfl rfl)
theorem dX3_addHabit_64 : decode cX3_addHabit 64 = .ok (.iload_n 1, 1) := dk_27 (dk_at dksX3_addHabit_2 16 rfl rfl)
theorem dX3_addHabit_65 : decode cX3_addHabit 65 = .ok (.iload 4, 2) := dk_21 4 (dk_at dksX3_addHabit_2 17 rfl rfl)
theorem dX3_addHabit_67 : decode cX3_addHabit 67 = .ok (.invokevirtual 111, 3) := dk_182 0 111 (dk_at dksX3_addHabit_2 19 rfl rfl)
theorem dX3_addHabit_70 : decode cX3_addHabit 70 = .ok (.ifCond .lt 17, 3) := dk_155 0 17 (dk_at dksX3_addHabit_3 0 rfl rfl)
theorem dX3_addHabit_73 : decode cX3_addHabit 73 = .ok (.aload_n 0, 1) := dk_42 (dk_at dksX3_addHabit_3 3 rfl rfl)
theorem dX3_addHabit_74 : decode cX3_addHabit 74 = .ok (.iconst 3, 1) := dk_6 (dk_at dksX3_addHabit_3 4 rfl rfl)
theorem dX3_addHabit_75 : decode cX3_addHabit 75 = .ok (.iconst 4, 1) := dk_7 (dk_at dksX3_addHabit_3 5 rfl rfl)
theorem dX3_addHabit_76 : decode cX3_addHabit 76 = .ok (.aload_n 0, 1) := dk_42 (dk_at dksX3_addHabit_3 6 rfl rfl)
theorem dX3_addHabit_77 : decode cX3_addHabit 77 = .ok (.iload_n 1, 1) := dk_27 (dk_at dksX3_addHabit_3 7 rfl rfl)
theorem dX3_addHabit_78 : decode cX3_addHabit 78 = .ok (.iload 4, 2) := dk_21 4 (dk_at dksX3_addHabit_3 8 rfl rfl)
theorem dX3_addHabit_80 : decode cX3_addHabit 80 = .ok (.invokevirtual 111, 3) := dk_182 0 111 (dk_at dksX3_addHabit_3 10 rfl rfl)
theorem dX3_addHabit_83 : decode cX3_addHabit 83 = .ok (.invokevirtual 70, 3) := dk_182 0 70 (dk_at dksX3_addHabit_3 13 rfl rfl)
theorem dX3_addHabit_86 : decode cX3_addHabit 86 = .ok (.ireturn, 1) := dk_172 (dk_at dksX3_addHabit_3 16 rfl rfl)
theorem dX3_addHabit_87 : decode cX3_addHabit 87 = .ok (.aload_n 0, 1) := dk_42 (dk_at dksX3_addHabit_3 17 rfl rfl)
theorem dX3_addHabit_88 : decode cX3_addHabit 88 = .ok (.getfield 7, 3) := dk_180 0 7 (dk_at dksX3_addHabit_3 18 rfl rfl)
theorem dX3_addHabit_91 : decode cX3_addHabit 91 = .ok (.iconst 1, 1) := dk_4 (dk_at dksX3_addHabit_3 21 rfl rfl)
theorem dX3_addHabit_92 : decode cX3_addHabit 92 = .ok (.iaload, 1) := dk_46 (dk_at dksX3_addHabit_3 22 rfl rfl)
theorem dX3_addHabit_93 : decode cX3_addHabit 93 = .ok (.bipush 20, 2) := dk_16 20 (dk_at dksX3_addHabit_4 0 rfl rfl)
theorem dX3_addHabit_95 : decode cX3_addHabit 95 = .ok (.if_icmp .ne 12, 3) := dk_160 0 12 (dk_at dksX3_addHabit_4 2 rfl rfl)
theorem dX3_addHabit_98 : decode cX3_addHabit 98 = .ok (.aload_n 0, 1) := dk_42 (dk_at dksX3_addHabit_4 5 rfl rfl)
theorem dX3_addHabit_99 : decode cX3_addHabit 99 = .ok (.iconst 3, 1) := dk_6 (dk_at dksX3_addHabit_4 6 rfl rfl)
theorem dX3_addHabit_100 : decode cX3_addHabit 100 = .ok (.iconst 2, 1) := dk_5 (dk_at dksX3_addHabit_4 7 rfl rfl)
theorem dX3_addHabit_101 : decode cX3_addHabit 101 = .ok (.bipush 20, 2) := dk_16 20 (dk_at dksX3_addHabit_4 8 rfl rfl)
theorem dX3_addHabit_103 : decode cX3_addHabit 103 = .ok (.invokevirtual 70, 3) := dk_182 0 70 (dk_at dksX3_addHabit_4 10 rfl rfl)
theorem dX3_addHabit_106 : decode cX3_addHabit 106 = .ok (.ireturn, 1) := dk_172 (dk_at dksX3_addHabit_4 13 rfl rfl)
theorem dX3_addHabit_107 : decode cX3_addHabit 107 = .ok (.aload_n 0, 1) := dk_42 (dk_at dksX3_addHabit_4 14 rfl rfl)
theorem dX3_addHabit_108 : decode cX3_addHabit 108 = .ok (.aload_n 0, 1) := dk_42 (dk_at dksX3_addHabit_4 15 rfl rfl)
theorem dX3_addHabit_109 : decode cX3_addHabit 109 = .ok (.getfield 7, 3) := dk_180 0 7 (dk_at dksX3_addHabit_4 16 rfl rfl)
theorem dX3_addHabit_112 : decode cX3_addHabit 112 = .ok (.invokevirtual 74, 3) := dk_182 0 74 (dk_at dksX3_addHabit_4 19 rfl rfl)
theorem dX3_addHabit_115 : decode cX3_addHabit 115 = .ok (.aload_n 0, 1) := dk_42 (dk_at dksX3_addHabit_4 22 rfl rfl)
theorem dX3_addHabit_116 : decode cX3_addHabit 116 = .ok (.getfield 7, 3) := dk_180 0 7 (dk_at dksX3_addHabit_5 0 rfl rfl)
theorem dX3_addHabit_119 : decode cX3_addHabit 119 = .ok (.iconst 1, 1) := dk_4 (dk_at dksX3_addHabit_5 3 rfl rfl)
theorem dX3_addHabit_120 : decode cX3_addHabit 120 = .ok (.iaload, 1) := dk_46 (dk_at dksX3_addHabit_5 4 rfl rfl)
theorem dX3_addHabit_121 : decode cX3_addHabit 121 = .ok (.istore 5, 2) := dk_54 5 (dk_at dksX3_addHabit_5 5 rfl rfl)
theorem dX3_addHabit_123 : decode cX3_addHabit 123 = .ok (.aload_n 0, 1) := dk_42 (dk_at dksX3_addHabit_5 7 rfl rfl)
theorem dX3_addHabit_124 : decode cX3_addHabit 124 = .ok (.getfield 7, 3) := dk_180 0 7 (dk_at dksX3_addHabit_5 8 rfl rfl)
theorem dX3_addHabit_127 : decode cX3_addHabit 127 = .ok (.iconst 1, 1) := dk_4 (dk_at dksX3_addHabit_5 11 rfl rfl)
theorem dX3_addHabit_128 : decode cX3_addHabit 128 = .ok (.dup2, 1) := dk_92 (dk_at dksX3_addHabit_5 12 rfl rfl)
theorem dX3_addHabit_129 : decode cX3_addHabit 129 = .ok (.iaload, 1) := dk_46 (dk_at dksX3_addHabit_5 13 rfl rfl)
theorem dX3_addHabit_130 : decode cX3_addHabit 130 = .ok (.iconst 1, 1) := dk_4 (dk_at dksX3_addHabit_5 14 rfl rfl)
theorem dX3_addHabit_131 : decode cX3_addHabit 131 = .ok (.iadd, 1) := dk_96 (dk_at dksX3_addHabit_5 15 rfl rfl)
theorem dX3_addHabit_132 : decode cX3_addHabit 132 = .ok (.iastore, 1) := dk_79 (dk_at dksX3_addHabit_5 16 rfl rfl)
theorem dX3_addHabit_133 : decode cX3_addHabit 133 = .ok (.aload_n 0, 1) := dk_42 (dk_at dksX3_addHabit_5 17 rfl rfl)
theorem dX3_addHabit_134 : decode cX3_addHabit 134 = .ok (.iload 5, 2) := dk_21 5 (dk_at dksX3_addHabit_5 18 rfl rfl)
theorem dX3_addHabit_136 : decode cX3_addHabit 136 = .ok (.invokevirtual 107, 3) := dk_182 0 107 (dk_at dksX3_addHabit_5 20 rfl rfl)
theorem dX3_addHabit_139 : decode cX3_addHabit 139 = .ok (.aload_n 0, 1) := dk_42 (dk_at dksX3_addHabit_5 23 rfl rfl)
theorem dX3_addHabit_140 : decode cX3_addHabit 140 = .ok (.iload 5, 2) := dk_21 5 (dk_at dksX3_addHabit_6 0 rfl rfl)
theorem dX3_addHabit_142 : decode cX3_addHabit 142 = .ok (.iconst 0, 1) := dk_3 (dk_at dksX3_addHabit_6 2 rfl rfl)
theorem dX3_addHabit_143 : decode cX3_addHabit 143 = .ok (.iload_n 1, 1) := dk_27 (dk_at dksX3_addHabit_6 3 rfl rfl)
theorem dX3_addHabit_144 : decode cX3_addHabit 144 = .ok (.invokevirtual 114, 3) := dk_182 0 114 (dk_at dksX3_addHabit_6 4 rfl rfl)
theorem dX3_addHabit_147 : decode cX3_addHabit 147 = .ok (.aload_n 0, 1) := dk_42 (dk_at dksX3_addHabit_6 7 rfl rfl)
theorem dX3_addHabit_148 : decode cX3_addHabit 148 = .ok (.iload 5, 2) := dk_21 5 (dk_at dksX3_addHabit_6 8 rfl rfl)
theorem dX3_addHabit_150 : decode cX3_addHabit 150 = .ok (.iconst 1, 1) := dk_4 (dk_at dksX3_addHabit_6 10 rfl rfl)
theorem dX3_addHabit_151 : decode cX3_addHabit 151 = .ok (.iload 4, 2) := dk_21 4 (dk_at dksX3_addHabit_6 11 rfl rfl)
theorem dX3_addHabit_153 : decode cX3_addHabit 153 = .ok (.invokevirtual 114, 3) := dk_182 0 114 (dk_at dksX3_addHabit_6 13 rfl rfl)
theorem dX3_addHabit_156 : decode cX3_addHabit 156 = .ok (.aload_n 0, 1) := dk_42 (dk_at dksX3_addHabit_6 16 rfl rfl)
theorem dX3_addHabit_157 : decode cX3_addHabit 157 = .ok (.iload 5, 2) := dk_21 5 (dk_at dksX3_addHabit_6 17 rfl rfl)
theorem dX3_addHabit_159 : decode cX3_addHabit 159 = .ok (.iconst 2, 1) := dk_5 (dk_at dksX3_addHabit_6 19 rfl rfl)
theorem dX3_addHabit_160 : decode cX3_addHabit 160 = .ok (.iload_n 3, 1) := dk_29 (dk_at dksX3_addHabit_6 20 rfl rfl)
theorem dX3_addHabit_161 : decode cX3_addHabit 161 = .ok (.invokevirtual 114, 3) := dk_182 0 114 (dk_at dksX3_addHabit_6 21 rfl rfl)
theorem dX3_addHabit_164 : decode cX3_addHabit 164 = .ok (.iload 5, 2) := dk_21 5 (dk_at dksX3_addHabit_7 0 rfl rfl)
theorem dX3_addHabit_166 : decode cX3_addHabit 166 = .ok (.ireturn, 1) := dk_172 (dk_at dksX3_addHabit_7 2 rfl rfl)
def dkwX3_kindOf0_1 : List UInt8 := [160, 0, 7, 5, 167, 0, 4, 2, 172]
abbrev dktX3_kindOf0_1 : List UInt8 := dkwX3_kindOf0_1 ++ []
def dkwX3_kindOf0_0 : List UInt8 := [26, 16, 100, 160, 0, 7, 3, 167, 0, 24, 26, 16, 115, 160, 0, 7, 4, 167, 0, 14, 26, 16, 104]
abbrev dktX3_kindOf0_0 : List UInt8 := dkwX3_kindOf0_0 ++ dktX3_kindOf0_1
theorem dksX3_kindOf0_0 : cX3_kindOf0.data.toList.drop 0 = dktX3_kindOf0_0 := by decide +kernel
theorem dksX3_kindOf0_1 : cX3_kindOf0.data.toList.drop 23 = dktX3_kindOf0_1 := dk_seg dksX3_kindOf0_0 23 rfl rfl
theorem dX3_kindOf0_0 : decode cX3_kindOf0 0 = .ok (.iload_n 0, 1) := dk_26 (dk_at dksX3_kindOf0_0 0 rfl rfl)
theorem dX3_kindOf0_1 : decode cX3_kindOf0 1 = .ok (.bipush 100, 2) := dk_16 100 (dk_at dksX3_kindOf0_0 1 rfl rfl)
theorem dX3_kindOf0_3 : decode cX3_kindOf0 3 = .ok (.if_icmp .ne 7, 3) := dk_160 0 7 (dk_at dksX3_kindOf0_0 3 rfl rfl)
theorem dX3_kindOf0_6 : decode cX3_kindOf0 6 = .ok (.iconst 0, 1) := dk_3 (dk_at dksX3_kindOf0_0 6 rfl rfl)
theorem dX3_kindOf0_7 : decode cX3_kindOf0 7 = .ok (.goto 24, 3) := dk_167 0 24 (dk_at dksX3_kindOf0_0 7 rfl rfl)
theorem dX3_kindOf0_10 : decode cX3_kindOf0 10 = .ok (.iload_n 0, 1) := dk_26 (dk_at dksX3_kindOf0_0 10 rfl rfl)
theorem dX3_kindOf0_11 : decode cX3_kindOf0 11 = .ok (.bipush 115, 2) := dk_16 115 (dk_at dksX3_kindOf0_0 11 rfl rfl)
theorem dX3_kindOf0_13 : decode cX3_kindOf0 13 = .ok (.if_icmp .ne 7, 3) := dk_160 0 7 (dk_at dksX3_kindOf0_0 13 rfl rfl)
theorem dX3_kindOf0_16 : decode cX3_kindOf0 16 = .ok (.iconst 1, 1) := dk_4 (dk_at dksX3_kindOf0_0 16 rfl rfl)
theorem dX3_kindOf0_17 : decode cX3_kindOf0 17 = .ok (.goto 14, 3) := dk_167 0 14 (dk_at dksX3_kindOf0_0 17 rfl rfl)
theorem dX3_kindOf0_20 : decode cX3_kindOf0 20 = .ok (.iload_n 0, 1) := dk_26 (dk_at dksX3_kindOf0_0 20 rfl rfl)
theorem dX3_kindOf0_21 : decode cX3_kindOf0 21 = .ok (.bipush 104, 2) := dk_16 104 (dk_at dksX3_kindOf0_0 21 rfl rfl)
theorem dX3_kindOf0_23 : decode cX3_kindOf0 23 = .ok (.if_icmp .ne 7, 3) := dk_160 0 7 (dk_at dksX3_kindOf0_1 0 rfl rfl)
theorem dX3_kindOf0_26 : decode cX3_kindOf0 26 = .ok (.iconst 2, 1) := dk_5 (dk_at dksX3_kindOf0_1 3 rfl rfl)
theorem dX3_kindOf0_27 : decode cX3_kindOf0 27 = .ok (.goto 4, 3) := dk_167 0 4 (dk_at dksX3_kindOf0_1 4 rfl rfl)
theorem dX3_kindOf0_30 : decode cX3_kindOf0 30 = .ok (.iconst (-1), 1) := dk_2 (dk_at dksX3_kindOf0_1 7 rfl rfl)
theorem dX3_kindOf0_31 : decode cX3_kindOf0 31 = .ok (.ireturn, 1) := dk_172 (dk_at dksX3_kindOf0_1 8 rfl rfl)
def dkwX3_practise_4 : List UInt8 := [172]
abbrev dktX3_practise_4 : List UInt8 := dkwX3_practise_4 ++ []
def dkwX3_practise_3 : List UInt8 := [42, 27, 5, 182, 0, 101, 4, 96, 182, 0, 114, 42, 27, 7, 4, 182, 0, 114, 42, 27, 5, 182, 0, 101]
abbrev dktX3_practise_3 : List UInt8 := dkwX3_practise_3 ++ dktX3_practise_4
def dkwX3_practise_2 : List UInt8 := [160, 0, 13, 42, 5, 16, 6, 16, 9, 182, 0, 70, 172, 42, 42, 180, 0, 7, 182, 0, 74, 42, 27, 5]
abbrev dktX3_practise_2 : List UInt8 := dkwX3_practise_2 ++ dktX3_practise_3
def dkwX3_practise_1 : List UInt8 := [182, 0, 160, 153, 0, 11, 42, 5, 8, 27, 182, 0, 70, 172, 42, 27, 5, 182, 0, 101, 16, 9]
abbrev dktX3_practise_1 : List UInt8 := dkwX3_practise_1 ++ dktX3_practise_2
def dkwX3_practise_0 : List UInt8 := [42, 42, 27, 182, 0, 157, 153, 0, 7, 3, 167, 0, 4, 4, 182, 0, 82, 153, 0, 5, 3, 172, 42, 27]
abbrev dktX3_practise_0 : List UInt8 := dkwX3_practise_0 ++ dktX3_practise_1
theorem dksX3_practise_0 : cX3_practise.data.toList.drop 0 = dktX3_practise_0 := by decide +kernel
theorem dksX3_practise_1 : cX3_practise.data.toList.drop 24 = dktX3_practise_1 := dk_seg dksX3_practise_0 24 rfl rfl
theorem dksX3_practise_2 : cX3_practise.data.toList.drop 46 = dktX3_practise_2 := dk_seg dksX3_practise_1 22 rfl rfl
theorem dksX3_practise_3 : cX3_practise.data.toList.drop 70 = dktX3_practise_3 := dk_seg dksX3_practise_2 24 rfl rfl
theorem dksX3_practise_4 : cX3_practise.data.toList.drop 94 = dktX3_practise_4 := dk_seg dksX3_practise_3 24 rfl rfl
theorem dX3_practise_0 : decode cX3_practise 0 = .ok (.aload_n 0, 1) := dk_42 (dk_at dksX3_practise_0 0 rfl rfl)
theorem dX3_practise_1 : decode cX3_practise 1 = .ok (.aload_n 0, 1) := dk_42 (dk_at dksX3_practise_0 1 rfl rfl)
theorem dX3_practise_2 : decode cX3_practise 2 = .ok (.iload_n 1, 1) := dk_27 (dk_at dksX3_practise_0 2 rfl rfl)
theorem dX3_practise_3 : decode cX3_practise 3 = .ok (.invokevirtual 157, 3) := dk_182 0 157 (dk_at dksX3_practise_0 3 rfl rfl)
theorem dX3_practise_6 : decode cX3_practise 6 = .ok (.ifCond .eq 7, 3) := dk_153 0 7 (dk_at dksX3_practise_0 6 rfl rfl)
theorem dX3_practise_9 : decode cX3_practise 9 = .ok (.iconst 0, 1) := dk_3 (dk_at dksX3_practise_0 9 rfl rfl)
theorem dX3_practise_10 : decode cX3_practise 10 = .ok (.goto 4, 3) := dk_167 0 4 (dk_at dksX3_practise_0 10 rfl rfl)
theorem dX3_practise_13 : decode cX3_practise 13 = .ok (.iconst 1, 1) := dk_4 (dk_at dksX3_practise_0 13 rfl rfl)
theorem dX3_practise_14 : decode cX3_practise 14 = .ok (.invokevirtual 82, 3) := dk_182 0 82 (dk_at dksX3_practise_0 14 rfl rfl)
theorem dX3_practise_17 : decode cX3_practise 17 = .ok (.ifCond .eq 5, 3) := dk_153 0 5 (dk_at dksX3_practise_0 17 rfl rfl)
theorem dX3_practise_20 : decode cX3_practise 20 = .ok (.iconst 0, 1) := dk_3 (dk_at dksX3_practise_0 20 rfl rfl)
theorem dX3_practise_21 : decode cX3_practise 21 = .ok (.ireturn, 1) := dk_172 (dk_at dksX3_practise_0 21 rfl rfl)
theorem dX3_practise_22 : decode cX3_practise 22 = .ok (.aload_n 0, 1) := dk_42 (dk_at dksX3_practise_0 22 rfl rfl)
theorem dX3_practise_23 : decode cX3_practise 23 = .ok (.iload_n 1, 1) := dk_27 (dk_at dksX3_practise_0 23 rfl rfl)
theorem dX3_practise_24 : decode cX3_practise 24 = .ok (.invokevirtual 160, 3) := dk_182 0 160 (dk_at dksX3_practise_1 0 rfl rfl)
theorem dX3_practise_27 : decode cX3_practise 27 = .ok (.ifCond .eq 11, 3) := dk_153 0 11 (dk_at dksX3_practise_1 3 rfl rfl)
theorem dX3_practise_30 : decode cX3_practise 30 = .ok (.aload_n 0, 1) := dk_42 (dk_at dksX3_practise_1 6 rfl rfl)
theorem dX3_practise_31 : decode cX3_practise 31 = .ok (.iconst 2, 1) := dk_5 (dk_at dksX3_practise_1 7 rfl rfl)
theorem dX3_practise_32 : decode cX3_practise 32 = .ok (.iconst 5, 1) := dk_8 (dk_at dksX3_practise_1 8 rfl rfl)
theorem dX3_practise_33 : decode cX3_practise 33 = .ok (.iload_n 1, 1) := dk_27 (dk_at dksX3_practise_1 9 rfl rfl)
theorem dX3_practise_34 : decode cX3_practise 34 = .ok (.invokevirtual 70, 3) := dk_182 0 70 (dk_at dksX3_practise_1 10 rfl rfl)
theorem dX3_practise_37 : decode cX3_practise 37 = .ok (.ireturn, 1) := dk_172 (dk_at dksX3_practise_1 13 rfl rfl)
theorem dX3_practise_38 : decode cX3_practise 38 = .ok (.aload_n 0, 1) := dk_42 (dk_at dksX3_practise_1 14 rfl rfl)
theorem dX3_practise_39 : decode cX3_practise 39 = .ok (.iload_n 1, 1) := dk_27 (dk_at dksX3_practise_1 15 rfl rfl)
theorem dX3_practise_40 : decode cX3_practise 40 = .ok (.iconst 2, 1) := dk_5 (dk_at dksX3_practise_1 16 rfl rfl)
theorem dX3_practise_41 : decode cX3_practise 41 = .ok (.invokevirtual 101, 3) := dk_182 0 101 (dk_at dksX3_practise_1 17 rfl rfl)
theorem dX3_practise_44 : decode cX3_practise 44 = .ok (.bipush 9, 2) := dk_16 9 (dk_at dksX3_practise_1 20 rfl rfl)
theorem dX3_practise_46 : decode cX3_practise 46 = .ok (.if_icmp .ne 13, 3) := dk_160 0 13 (dk_at dksX3_practise_2 0 rfl rfl)
theorem dX3_practise_49 : decode cX3_practise 49 = .ok (.aload_n 0, 1) := dk_42 (dk_at dksX3_practise_2 3 rfl rfl)
theorem dX3_practise_50 : decode cX3_practise 50 = .ok (.iconst 2, 1) := dk_5 (dk_at dksX3_practise_2 4 rfl rfl)
theorem dX3_practise_51 : decode cX3_practise 51 = .ok (.bipush 6, 2) := dk_16 6 (dk_at dksX3_practise_2 5 rfl rfl)
theorem dX3_practise_53 : decode cX3_practise 53 = .ok (.bipush 9, 2) := dk_16 9 (dk_at dksX3_practise_2 7 rfl rfl)
theorem dX3_practise_55 : decode cX3_practise 55 = .ok (.invokevirtual 70, 3) := dk_182 0 70 (dk_at dksX3_practise_2 9 rfl rfl)
theorem dX3_practise_58 : decode cX3_practise 58 = .ok (.ireturn, 1) := dk_172 (dk_at dksX3_practise_2 12 rfl rfl)
theorem dX3_practise_59 : decode cX3_practise 59 = .ok (.aload_n 0, 1) := dk_42 (dk_at dksX3_practise_2 13 rfl rfl)
theorem dX3_practise_60 : decode cX3_practise 60 = .ok (.aload_n 0, 1) := dk_42 (dk_at dksX3_practise_2 14 rfl rfl)
theorem dX3_practise_61 : decode cX3_practise 61 = .ok (.getfield 7, 3) := dk_180 0 7 (dk_at dksX3_practise_2 15 rfl rfl)
theorem dX3_practise_64 : decode cX3_practise 64 = .ok (.invokevirtual 74, 3) := dk_182 0 74 (dk_at dksX3_practise_2 18 rfl rfl)
theorem dX3_practise_67 : decode cX3_practise 67 = .ok (.aload_n 0, 1) := dk_42 (dk_at dksX3_practise_2 21 rfl rfl)
theorem dX3_practise_68 : decode cX3_practise 68 = .ok (.iload_n 1, 1) := dk_27 (dk_at dksX3_practise_2 22 rfl rfl)
theorem dX3_practise_69 : decode cX3_practise 69 = .ok (.iconst 2, 1) := dk_5 (dk_at dksX3_practise_2 23 rfl rfl)
theorem dX3_practise_70 : decode cX3_practise 70 = .ok (.aload_n 0, 1) := dk_42 (dk_at dksX3_practise_3 0 rfl rfl)
theorem dX3_practise_71 : decode cX3_practise 71 = .ok (.iload_n 1, 1) := dk_27 (dk_at dksX3_practise_3 1 rfl rfl)
theorem dX3_practise_72 : decode cX3_practise 72 = .ok (.iconst 2, 1) := dk_5 (dk_at dksX3_practise_3 2 rfl rfl)
theorem dX3_practise_73 : decode cX3_practise 73 = .ok (.invokevirtual 101, 3) := dk_182 0 101 (dk_at dksX3_practise_3 3 rfl rfl)
theorem dX3_practise_76 : decode cX3_practise 76 = .ok (.iconst 1, 1) := dk_4 (dk_at dksX3_practise_3 6 rfl rfl)
theorem dX3_practise_77 : decode cX3_practise 77 = .ok (.iadd, 1) := dk_96 (dk_at dksX3_practise_3 7 rfl rfl)
theorem dX3_practise_78 : decode cX3_practise 78 = .ok (.invokevirtual 114, 3) := dk_182 0 114 (dk_at dksX3_practise_3 8 rfl rfl)
theorem dX3_practise_81 : decode cX3_practise 81 = .ok (.aload_n 0, 1) := dk_42 (dk_at dksX3_practise_3 11 rfl rfl)
theorem dX3_practise_82 : decode cX3_practise 82 = .ok (.iload_n 1, 1) := dk_27 (dk_at dksX3_practise_3 12 rfl rfl)
theorem dX3_practise_83 : decode cX3_practise 83 = .ok (.iconst 4, 1) := dk_7 (dk_at dksX3_practise_3 13 rfl rfl)
theorem dX3_practise_84 : decode cX3_practise 84 = .ok (.iconst 1, 1) := dk_4 (dk_at dksX3_practise_3 14 rfl rfl)
theorem dX3_practise_85 : decode cX3_practise 85 = .ok (.invokevirtual 114, 3) := dk_182 0 114 (dk_at dksX3_practise_3 15 rfl rfl)
theorem dX3_practise_88 : decode cX3_practise 88 = .ok (.aload_n 0, 1) := dk_42 (dk_at dksX3_practise_3 18 rfl rfl)
theorem dX3_practise_89 : decode cX3_practise 89 = .ok (.iload_n 1, 1) := dk_27 (dk_at dksX3_practise_3 19 rfl rfl)
theorem dX3_practise_90 : decode cX3_practise 90 = .ok (.iconst 2, 1) := dk_5 (dk_at dksX3_practise_3 20 rfl rfl)
theorem dX3_practise_91 : decode cX3_practise 91 = .ok (.invokevirtual 101, 3) := dk_182 0 101 (dk_at dksX3_practise_3 21 rfl rfl)
theorem dX3_practise_94 : decode cX3_practise 94 = .ok (.ireturn, 1) := dk_172 (dk_at dksX3_practise_4 0 rfl rfl)
def dkwX3_isHabit_0 : List UInt8 := [27, 3, 42, 180, 0, 7, 4, 46, 4, 100, 184, 0, 62, 172]
abbrev dktX3_isHabit_0 : List UInt8 := dkwX3_isHabit_0 ++ []
theorem dksX3_isHabit_0 : cX3_isHabit.data.toList.drop 0 = dktX3_isHabit_0 := by decide +kernel
theorem dX3_isHabit_0 : decode cX3_isHabit 0 = .ok (.iload_n 1, 1) := dk_27 (dk_at dksX3_isHabit_0 0 rfl rfl)
theorem dX3_isHabit_1 : decode cX3_isHabit 1 = .ok (.iconst 0, 1) := dk_3 (dk_at dksX3_isHabit_0 1 rfl rfl)
theorem dX3_isHabit_2 : decode cX3_isHabit 2 = .ok (.aload_n 0, 1) := dk_42 (dk_at dksX3_isHabit_0 2 rfl rfl)
theorem dX3_isHabit_3 : decode cX3_isHabit 3 = .ok (.getfield 7, 3) := dk_180 0 7 (dk_at dksX3_isHabit_0 3 rfl rfl)
theorem dX3_isHabit_6 : decode cX3_isHabit 6 = .ok (.iconst 1, 1) := dk_4 (dk_at dksX3_isHabit_0 6 rfl rfl)
theorem dX3_isHabit_7 : decode cX3_isHabit 7 = .ok (.iaload, 1) := dk_46 (dk_at dksX3_isHabit_0 7 rfl rfl)
theorem dX3_isHabit_8 : decode cX3_isHabit 8 = .ok (.iconst 1, 1) := dk_4 (dk_at dksX3_isHabit_0 8 rfl rfl)
theorem dX3_isHabit_9 : decode cX3_isHabit 9 = .ok (.isub, 1) := dk_100 (dk_at dksX3_isHabit_0 9 rfl rfl)
theorem dX3_isHabit_10 : decode cX3_isHabit 10 = .ok (.invokestatic 62, 3) := dk_184 0 62 (dk_at dksX3_isHabit_0 10 rfl rfl)
theorem dX3_isHabit_13 : decode cX3_isHabit 13 = .ok (.ireturn, 1) := dk_172 (dk_at dksX3_isHabit_0 13 rfl rfl)
def dkwX3_isGone_0 : List UInt8 := [42, 27, 3, 182, 0, 101, 156, 0, 7, 4, 167, 0, 4, 3, 172]
abbrev dktX3_isGone_0 : List UInt8 := dkwX3_isGone_0 ++ []
theorem dksX3_isGone_0 : cX3_isGone.data.toList.drop 0 = dktX3_isGone_0 := by decide +kernel
theorem dX3_isGone_0 : decode cX3_isGone 0 = .ok (.aload_n 0, 1) := dk_42 (dk_at dksX3_isGone_0 0 rfl rfl)
theorem dX3_isGone_1 : decode cX3_isGone 1 = .ok (.iload_n 1, 1) := dk_27 (dk_at dksX3_isGone_0 1 rfl rfl)
theorem dX3_isGone_2 : decode cX3_isGone 2 = .ok (.iconst 0, 1) := dk_3 (dk_at dksX3_isGone_0 2 rfl rfl)
theorem dX3_isGone_3 : decode cX3_isGone 3 = .ok (.invokevirtual 101, 3) := dk_182 0 101 (dk_at dksX3_isGone_0 3 rfl rfl)
theorem dX3_isGone_6 : decode cX3_isGone 6 = .ok (.ifCond .ge 7, 3) := dk_156 0 7 (dk_at dksX3_isGone_0 6 rfl rfl)
theorem dX3_isGone_9 : decode cX3_isGone 9 = .ok (.iconst 1, 1) := dk_4 (dk_at dksX3_isGone_0 9 rfl rfl)
theorem dX3_isGone_10 : decode cX3_isGone 10 = .ok (.goto 4, 3) := dk_167 0 4 (dk_at dksX3_isGone_0 10 rfl rfl)
theorem dX3_isGone_13 : decode cX3_isGone 13 = .ok (.iconst 0, 1) := dk_3 (dk_at dksX3_isGone_0 13 rfl rfl)
theorem dX3_isGone_14 : decode cX3_isGone 14 = .ok (.ireturn, 1) := dk_172 (dk_at dksX3_isGone_0 14 rfl rfl)
def dkwX3_neglect_2 : List UInt8 := [182, 0, 163, 87, 42, 27, 5, 182, 0, 101, 172]
abbrev dktX3_neglect_2 : List UInt8 := dkwX3_neglect_2 ++ []
def dkwX3_neglect_1 : List UInt8 := [182, 0, 160, 153, 0, 11, 42, 5, 8, 27, 182, 0, 70, 172, 42, 42, 180, 0, 7, 182, 0, 74, 42, 27]
abbrev dktX3_neglect_1 : List UInt8 := dkwX3_neglect_1 ++ dktX3_neglect_2
def dkwX3_neglect_0 : List UInt8 := [42, 42, 27, 182, 0, 157, 153, 0, 7, 3, 167, 0, 4, 4, 182, 0, 82, 153, 0, 5, 3, 172, 42, 27]
abbrev dktX3_neglect_0 : List UInt8 := dkwX3_neglect_0 ++ dktX3_neglect_1
theorem dksX3_neglect_0 : cX3_neglect.data.toList.drop 0 = dktX3_neglect_0 := by decide +kernel
theorem dksX3_neglect_1 : cX3_neglect.data.toList.drop 24 = dktX3_neglect_1 := dk_seg dksX3_neglect_0 24 rfl rfl
theorem dksX3_neglect_2 : cX3_neglect.data.toList.drop 48 = dktX3_neglect_2 := dk_seg dksX3_neglect_1 24 rfl rfl
theorem dX3_neglect_0 : decode cX3_neglect 0 = .ok (.aload_n 0, 1) := dk_42 (dk_at dksX3_neglect_0 0 rfl rfl)
theorem dX3_neglect_1 : decode cX3_neglect 1 = .ok (.aload_n 0, 1) := dk_42 (dk_at dksX3_neglect_0 1 rfl rfl)
theorem dX3_neglect_2 : decode cX3_neglect 2 = .ok (.iload_n 1, 1) := dk_27 (dk_at dksX3_neglect_0 2 rfl rfl)
theorem dX3_neglect_3 : decode cX3_neglect 3 = .ok (.invokevirtual 157, 3) := dk_182 0 157 (dk_at dksX3_neglect_0 3 rfl rfl)
theorem dX3_neglect_6 : decode cX3_neglect 6 = .ok (.ifCond .eq 7, 3) := dk_153 0 7 (dk_at dksX3_neglect_0 6 rfl rfl)
theorem dX3_neglect_9 : decode cX3_neglect 9 = .ok (.iconst 0, 1) := dk_3 (dk_at dksX3_neglect_0 9 rfl rfl)
theorem dX3_neglect_10 : decode cX3_neglect 10 = .ok (.goto 4, 3) := dk_167 0 4 (dk_at dksX3_neglect_0 10 rfl rfl)
theorem dX3_neglect_13 : decode cX3_neglect 13 = .ok (.iconst 1, 1) := dk_4 (dk_at dksX3_neglect_0 13 rfl rfl)
theorem dX3_neglect_14 : decode cX3_neglect 14 = .ok (.invokevirtual 82, 3) := dk_182 0 82 (dk_at dksX3_neglect_0 14 rfl rfl)
theorem dX3_neglect_17 : decode cX3_neglect 17 = .ok (.ifCond .eq 5, 3) := dk_153 0 5 (dk_at dksX3_neglect_0 17 rfl rfl)
theorem dX3_neglect_20 : decode cX3_neglect 20 = .ok (.iconst 0, 1) := dk_3 (dk_at dksX3_neglect_0 20 rfl rfl)
theorem dX3_neglect_21 : decode cX3_neglect 21 = .ok (.ireturn, 1) := dk_172 (dk_at dksX3_neglect_0 21 rfl rfl)
theorem dX3_neglect_22 : decode cX3_neglect 22 = .ok (.aload_n 0, 1) := dk_42 (dk_at dksX3_neglect_0 22 rfl rfl)
theorem dX3_neglect_23 : decode cX3_neglect 23 = .ok (.iload_n 1, 1) := dk_27 (dk_at dksX3_neglect_0 23 rfl rfl)
theorem dX3_neglect_24 : decode cX3_neglect 24 = .ok (.invokevirtual 160, 3) := dk_182 0 160 (dk_at dksX3_neglect_1 0 rfl rfl)
theorem dX3_neglect_27 : decode cX3_neglect 27 = .ok (.ifCond .eq 11, 3) := dk_153 0 11 (dk_at dksX3_neglect_1 3 rfl rfl)
theorem dX3_neglect_30 : decode cX3_neglect 30 = .ok (.aload_n 0, 1) := dk_42 (dk_at dksX3_neglect_1 6 rfl rfl)
theorem dX3_neglect_31 : decode cX3_neglect 31 = .ok (.iconst 2, 1) := dk_5 (dk_at dksX3_neglect_1 7 rfl rfl)
theorem dX3_neglect_32 : decode cX3_neglect 32 = .ok (.iconst 5, 1) := dk_8 (dk_at dksX3_neglect_1 8 rfl rfl)
theorem dX3_neglect_33 : decode cX3_neglect 33 = .ok (.iload_n 1, 1) := dk_27 (dk_at dksX3_neglect_1 9 rfl rfl)
theorem dX3_neglect_34 : decode cX3_neglect 34 = .ok (.invokevirtual 70, 3) := dk_182 0 70 (dk_at dksX3_neglect_1 10 rfl rfl)
theorem dX3_neglect_37 : decode cX3_neglect 37 = .ok (.ireturn, 1) := dk_172 (dk_at dksX3_neglect_1 13 rfl rfl)
theorem dX3_neglect_38 : decode cX3_neglect 38 = .ok (.aload_n 0, 1) := dk_42 (dk_at dksX3_neglect_1 14 rfl rfl)
theorem dX3_neglect_39 : decode cX3_neglect 39 = .ok (.aload_n 0, 1) := dk_42 (dk_at dksX3_neglect_1 15 rfl rfl)
theorem dX3_neglect_40 : decode cX3_neglect 40 = .ok (.getfield 7, 3) := dk_180 0 7 (dk_at dksX3_neglect_1 16 rfl rfl)
theorem dX3_neglect_43 : decode cX3_neglect 43 = .ok (.invokevirtual 74, 3) := dk_182 0 74 (dk_at dksX3_neglect_1 19 rfl rfl)
theorem dX3_neglect_46 : decode cX3_neglect 46 = .ok (.aload_n 0, 1) := dk_42 (dk_at dksX3_neglect_1 22 rfl rfl)
theorem dX3_neglect_47 : decode cX3_neglect 47 = .ok (.iload_n 1, 1) := dk_27 (dk_at dksX3_neglect_1 23 rfl rfl)
theorem dX3_neglect_48 : decode cX3_neglect 48 = .ok (.invokevirtual 163, 3) := dk_182 0 163 (dk_at dksX3_neglect_2 0 rfl rfl)
theorem dX3_neglect_51 : decode cX3_neglect 51 = .ok (.pop, 1) := dk_87 (dk_at dksX3_neglect_2 3 rfl rfl)
theorem dX3_neglect_52 : decode cX3_neglect 52 = .ok (.aload_n 0, 1) := dk_42 (dk_at dksX3_neglect_2 4 rfl rfl)
theorem dX3_neglect_53 : decode cX3_neglect 53 = .ok (.iload_n 1, 1) := dk_27 (dk_at dksX3_neglect_2 5 rfl rfl)
theorem dX3_neglect_54 : decode cX3_neglect 54 = .ok (.iconst 2, 1) := dk_5 (dk_at dksX3_neglect_2 6 rfl rfl)
theorem dX3_neglect_55 : decode cX3_neglect 55 = .ok (.invokevirtual 101, 3) := dk_182 0 101 (dk_at dksX3_neglect_2 7 rfl rfl)
theorem dX3_neglect_58 : decode cX3_neglect 58 = .ok (.ireturn, 1) := dk_172 (dk_at dksX3_neglect_2 10 rfl rfl)
def dkwX3_weakens_1 : List UInt8 := [172, 42, 27, 182, 0, 107, 42, 180, 0, 7, 6, 92, 46, 4, 96, 79, 4, 172]
abbrev dktX3_weakens_1 : List UInt8 := dkwX3_weakens_1 ++ []
def dkwX3_weakens_0 : List UInt8 := [42, 27, 5, 42, 27, 5, 182, 0, 101, 4, 100, 182, 0, 114, 42, 27, 5, 182, 0, 101, 158, 0, 5, 3]
abbrev dktX3_weakens_0 : List UInt8 := dkwX3_weakens_0 ++ dktX3_weakens_1
theorem dksX3_weakens_0 : cX3_weakens.data.toList.drop 0 = dktX3_weakens_0 := by decide +kernel
theorem dksX3_weakens_1 : cX3_weakens.data.toList.drop 24 = dktX3_weakens_1 := dk_seg dksX3_weakens_0 24 rfl rfl
theorem dX3_weakens_0 : decode cX3_weakens 0 = .ok (.aload_n 0, 1) := dk_42 (dk_at dksX3_weakens_0 0 rfl rfl)
theorem dX3_weakens_1 : decode cX3_weakens 1 = .ok (.iload_n 1, 1) := dk_27 (dk_at dksX3_weakens_0 1 rfl rfl)
theorem dX3_weakens_2 : decode cX3_weakens 2 = .ok (.iconst 2, 1) := dk_5 (dk_at dksX3_weakens_0 2 rfl rfl)
theorem dX3_weakens_3 : decode cX3_weakens 3 = .ok (.aload_n 0, 1) := dk_42 (dk_at dksX3_weakens_0 3 rfl rfl)
theorem dX3_weakens_4 : decode cX3_weakens 4 = .ok (.iload_n 1, 1) := dk_27 (dk_at dksX3_weakens_0 4 rfl rfl)
theorem dX3_weakens_5 : decode cX3_weakens 5 = .ok (.iconst 2, 1) := dk_5 (dk_at dksX3_weakens_0 5 rfl rfl)
theorem dX3_weakens_6 : decode cX3_weakens 6 = .ok (.invokevirtual 101, 3) := dk_182 0 101 (dk_at dksX3_weakens_0 6 rfl rfl)
theorem dX3_weakens_9 : decode cX3_weakens 9 = .ok (.iconst 1, 1) := dk_4 (dk_at dksX3_weakens_0 9 rfl rfl)
theorem dX3_weakens_10 : decode cX3_weakens 10 = .ok (.isub, 1) := dk_100 (dk_at dksX3_weakens_0 10 rfl rfl)
theorem dX3_weakens_11 : decode cX3_weakens 11 = .ok (.invokevirtual 114, 3) := dk_182 0 114 (dk_at dksX3_weakens_0 11 rfl rfl)
theorem dX3_weakens_14 : decode cX3_weakens 14 = .ok (.aload_n 0, 1) := dk_42 (dk_at dksX3_weakens_0 14 rfl rfl)
theorem dX3_weakens_15 : decode cX3_weakens 15 = .ok (.iload_n 1, 1) := dk_27 (dk_at dksX3_weakens_0 15 rfl rfl)
theorem dX3_weakens_16 : decode cX3_weakens 16 = .ok (.iconst 2, 1) := dk_5 (dk_at dksX3_weakens_0 16 rfl rfl)
theorem dX3_weakens_17 : decode cX3_weakens 17 = .ok (.invokevirtual 101, 3) := dk_182 0 101 (dk_at dksX3_weakens_0 17 rfl rfl)
theorem dX3_weakens_20 : decode cX3_weakens 20 = .ok (.ifCond .le 5, 3) := dk_158 0 5 (dk_at dksX3_weakens_0 20 rfl rfl)
theorem dX3_weakens_23 : decode cX3_weakens 23 = .ok (.iconst 0, 1) := dk_3 (dk_at dksX3_weakens_0 23 rfl rfl)
theorem dX3_weakens_24 : decode cX3_weakens 24 = .ok (.ireturn, 1) := dk_172 (dk_at dksX3_weakens_1 0 rfl rfl)
theorem dX3_weakens_25 : decode cX3_weakens 25 = .ok (.aload_n 0, 1) := dk_42 (dk_at dksX3_weakens_1 1 rfl rfl)
theorem dX3_weakens_26 : decode cX3_weakens 26 = .ok (.iload_n 1, 1) := dk_27 (dk_at dksX3_weakens_1 2 rfl rfl)
theorem dX3_weakens_27 : decode cX3_weakens 27 = .ok (.invokevirtual 107, 3) := dk_182 0 107 (dk_at dksX3_weakens_1 3 rfl rfl)
theorem dX3_weakens_30 : decode cX3_weakens 30 = .ok (.aload_n 0, 1) := dk_42 (dk_at dksX3_weakens_1 6 rfl rfl)
theorem dX3_weakens_31 : decode cX3_weakens 31 = .ok (.getfield 7, 3) := dk_180 0 7 (dk_at dksX3_weakens_1 7 rfl rfl)
theorem dX3_weakens_34 : decode cX3_weakens 34 = .ok (.iconst 3, 1) := dk_6 (dk_at dksX3_weakens_1 10 rfl rfl)
theorem dX3_weakens_35 : decode cX3_weakens 35 = .ok (.dup2, 1) := dk_92 (dk_at dksX3_weakens_1 11 rfl rfl)
theorem dX3_weakens_36 : decode cX3_weakens 36 = .ok (.iaload, 1) := dk_46 (dk_at dksX3_weakens_1 12 rfl rfl)
theorem dX3_weakens_37 : decode cX3_weakens 37 = .ok (.iconst 1, 1) := dk_4 (dk_at dksX3_weakens_1 13 rfl rfl)
theorem dX3_weakens_38 : decode cX3_weakens 38 = .ok (.iadd, 1) := dk_96 (dk_at dksX3_weakens_1 14 rfl rfl)
theorem dX3_weakens_39 : decode cX3_weakens 39 = .ok (.iastore, 1) := dk_79 (dk_at dksX3_weakens_1 15 rfl rfl)
theorem dX3_weakens_40 : decode cX3_weakens 40 = .ok (.iconst 1, 1) := dk_4 (dk_at dksX3_weakens_1 16 rfl rfl)
theorem dX3_weakens_41 : decode cX3_weakens 41 = .ok (.ireturn, 1) := dk_172 (dk_at dksX3_weakens_1 17 rfl rfl)
def dkwX3_entail_4 : List UInt8 := [182, 0, 114, 28, 172]
abbrev dktX3_entail_4 : List UInt8 := dkwX3_entail_4 ++ []
def dkwX3_entail_3 : List UInt8 := [156, 0, 12, 42, 5, 16, 9, 28, 182, 0, 70, 172, 42, 42, 180, 0, 7, 182, 0, 74, 42, 27, 6, 4]
abbrev dktX3_entail_3 : List UInt8 := dkwX3_entail_3 ++ dktX3_entail_4
def dkwX3_entail_2 : List UInt8 := [42, 5, 16, 7, 27, 182, 0, 70, 172, 42, 27, 3, 182, 0, 101, 61, 42, 28, 28, 182, 0, 98]
abbrev dktX3_entail_2 : List UInt8 := dkwX3_entail_2 ++ dktX3_entail_3
def dkwX3_entail_1 : List UInt8 := [182, 0, 160, 153, 0, 11, 42, 5, 8, 27, 182, 0, 70, 172, 42, 27, 6, 182, 0, 101, 4, 160, 0, 12]
abbrev dktX3_entail_1 : List UInt8 := dkwX3_entail_1 ++ dktX3_entail_2
def dkwX3_entail_0 : List UInt8 := [42, 42, 27, 182, 0, 157, 153, 0, 7, 3, 167, 0, 4, 4, 182, 0, 82, 153, 0, 5, 3, 172, 42, 27]
abbrev dktX3_entail_0 : List UInt8 := dkwX3_entail_0 ++ dktX3_entail_1
theorem dksX3_entail_0 : cX3_entail.data.toList.drop 0 = dktX3_entail_0 := by decide +kernel
theorem dksX3_entail_1 : cX3_entail.data.toList.drop 24 = dktX3_entail_1 := dk_seg dksX3_entail_0 24 rfl rfl
theorem dksX3_entail_2 : cX3_entail.data.toList.drop 48 = dktX3_entail_2 := dk_seg dksX3_entail_1 24 rfl rfl
theorem dksX3_entail_3 : cX3_entail.data.toList.drop 70 = dktX3_entail_3 := dk_seg dksX3_entail_2 22 rfl rfl
theorem dksX3_entail_4 : cX3_entail.data.toList.drop 94 = dktX3_entail_4 := dk_seg dksX3_entail_3 24 rfl rfl
theorem dX3_entail_0 : decode cX3_entail 0 = .ok (.aload_n 0, 1) := dk_42 (dk_at dksX3_entail_0 0 rfl rfl)
theorem dX3_entail_1 : decode cX3_entail 1 = .ok (.aload_n 0, 1) := dk_42 (dk_at dksX3_entail_0 1 rfl rfl)
theorem dX3_entail_2 : decode cX3_entail 2 = .ok (.iload_n 1, 1) := dk_27 (dk_at dksX3_entail_0 2 rfl rfl)
theorem dX3_entail_3 : decode cX3_entail 3 = .ok (.invokevirtual 157, 3) := dk_182 0 157 (dk_at dksX3_entail_0 3 rfl rfl)
theorem dX3_entail_6 : decode cX3_entail 6 = .ok (.ifCond .eq 7, 3) := dk_153 0 7 (dk_at dksX3_entail_0 6 rfl rfl)
theorem dX3_entail_9 : decode cX3_entail 9 = .ok (.iconst 0, 1) := dk_3 (dk_at dksX3_entail_0 9 rfl rfl)
theorem dX3_entail_10 : decode cX3_entail 10 = .ok (.goto 4, 3) := dk_167 0 4 (dk_at dksX3_entail_0 10 rfl rfl)
theorem dX3_entail_13 : decode cX3_entail 13 = .ok (.iconst 1, 1) := dk_4 (dk_at dksX3_entail_0 13 rfl rfl)
theorem dX3_entail_14 : decode cX3_entail 14 = .ok (.invokevirtual 82, 3) := dk_182 0 82 (dk_at dksX3_entail_0 14 rfl rfl)
theorem dX3_entail_17 : decode cX3_entail 17 = .ok (.ifCond .eq 5, 3) := dk_153 0 5 (dk_at dksX3_entail_0 17 rfl rfl)
theorem dX3_entail_20 : decode cX3_entail 20 = .ok (.iconst 0, 1) := dk_3 (dk_at dksX3_entail_0 20 rfl rfl)
theorem dX3_entail_21 : decode cX3_entail 21 = .ok (.ireturn, 1) := dk_172 (dk_at dksX3_entail_0 21 rfl rfl)
theorem dX3_entail_22 : decode cX3_entail 22 = .ok (.aload_n 0, 1) := dk_42 (dk_at dksX3_entail_0 22 rfl rfl)
theorem dX3_entail_23 : decode cX3_entail 23 = .ok (.iload_n 1, 1) := dk_27 (dk_at dksX3_entail_0 23 rfl rfl)
theorem dX3_entail_24 : decode cX3_entail 24 = .ok (.invokevirtual 160, 3) := dk_182 0 160 (dk_at dksX3_entail_1 0 rfl rfl)
theorem dX3_entail_27 : decode cX3_entail 27 = .ok (.ifCond .eq 11, 3) := dk_153 0 11 (dk_at dksX3_entail_1 3 rfl rfl)
theorem dX3_entail_30 : decode cX3_entail 30 = .ok (.aload_n 0, 1) := dk_42 (dk_at dksX3_entail_1 6 rfl rfl)
theorem dX3_entail_31 : decode cX3_entail 31 = .ok (.iconst 2, 1) := dk_5 (dk_at dksX3_entail_1 7 rfl rfl)
theorem dX3_entail_32 : decode cX3_entail 32 = .ok (.iconst 5, 1) := dk_8 (dk_at dksX3_entail_1 8 rfl rfl)
theorem dX3_entail_33 : decode cX3_entail 33 = .ok (.iload_n 1, 1) := dk_27 (dk_at dksX3_entail_1 9 rfl rfl)
theorem dX3_entail_34 : decode cX3_entail 34 = .ok (.invokevirtual 70, 3) := dk_182 0 70 (dk_at dksX3_entail_1 10 rfl rfl)
theorem dX3_entail_37 : decode cX3_entail 37 = .ok (.ireturn, 1) := dk_172 (dk_at dksX3_entail_1 13 rfl rfl)
theorem dX3_entail_38 : decode cX3_entail 38 = .ok (.aload_n 0, 1) := dk_42 (dk_at dksX3_entail_1 14 rfl rfl)
theorem dX3_entail_39 : decode cX3_entail 39 = .ok (.iload_n 1, 1) := dk_27 (dk_at dksX3_entail_1 15 rfl rfl)
theorem dX3_entail_40 : decode cX3_entail 40 = .ok (.iconst 3, 1) := dk_6 (dk_at dksX3_entail_1 16 rfl rfl)
theorem dX3_entail_41 : decode cX3_entail 41 = .ok (.invokevirtual 101, 3) := dk_182 0 101 (dk_at dksX3_entail_1 17 rfl rfl)
theorem dX3_entail_44 : decode cX3_entail 44 = .ok (.iconst 1, 1) := dk_4 (dk_at dksX3_entail_1 20 rfl rfl)
theorem dX3_entail_45 : decode cX3_entail 45 = .ok (.if_icmp .ne 12, 3) := dk_160 0 12 (dk_at dksX3_entail_1 21 rfl rfl)
theorem dX3_entail_48 : decode cX3_entail 48 = .ok (.aload_n 0, 1) := dk_42 (dk_at dksX3_entail_2 0 rfl rfl)
theorem dX3_entail_49 : decode cX3_entail 49 = .ok (.iconst 2, 1) := dk_5 (dk_at dksX3_entail_2 1 rfl rfl)
theorem dX3_entail_50 : decode cX3_entail 50 = .ok (.bipush 7, 2) := dk_16 7 (dk_at dksX3_entail_2 2 rfl rfl)
theorem dX3_entail_52 : decode cX3_entail 52 = .ok (.iload_n 1, 1) := dk_27 (dk_at dksX3_entail_2 4 rfl rfl)
theorem dX3_entail_53 : decode cX3_entail 53 = .ok (.invokevirtual 70, 3) := dk_182 0 70 (dk_at dksX3_entail_2 5 rfl rfl)
theorem dX3_entail_56 : decode cX3_entail 56 = .ok (.ireturn, 1) := dk_172 (dk_at dksX3_entail_2 8 rfl rfl)
theorem dX3_entail_57 : decode cX3_entail 57 = .ok (.aload_n 0, 1) := dk_42 (dk_at dksX3_entail_2 9 rfl rfl)
theorem dX3_entail_58 : decode cX3_entail 58 = .ok (.iload_n 1, 1) := dk_27 (dk_at dksX3_entail_2 10 rfl rfl)
theorem dX3_entail_59 : decode cX3_entail 59 = .ok (.iconst 0, 1) := dk_3 (dk_at dksX3_entail_2 11 rfl rfl)
theorem dX3_entail_60 : decode cX3_entail 60 = .ok (.invokevirtual 101, 3) := dk_182 0 101 (dk_at dksX3_entail_2 12 rfl rfl)
theorem dX3_entail_63 : decode cX3_entail 63 = .ok (.istore_n 2, 1) := dk_61 (dk_at dksX3_entail_2 15 rfl rfl)
theorem dX3_entail_64 : decode cX3_entail 64 = .ok (.aload_n 0, 1) := dk_42 (dk_at dksX3_entail_2 16 rfl rfl)
theorem dX3_entail_65 : decode cX3_entail 65 = .ok (.iload_n 2, 1) := dk_28 (dk_at dksX3_entail_2 17 rfl rfl)
theorem dX3_entail_66 : decode cX3_entail 66 = .ok (.iload_n 2, 1) := dk_28 (dk_at dksX3_entail_2 18 rfl rfl)
theorem dX3_entail_67 : decode cX3_entail 67 = .ok (.invokevirtual 98, 3) := dk_182 0 98 (dk_at dksX3_entail_2 19 rfl rfl)
theorem dX3_entail_70 : decode cX3_entail 70 = .ok (.ifCond .ge 12, 3) := dk_156 0 12 (dk_at dksX3_entail_3 0 rfl rfl)
theorem dX3_entail_73 : decode cX3_entail 73 = .ok (.aload_n 0, 1) := dk_42 (dk_at dksX3_entail_3 3 rfl rfl)
theorem dX3_entail_74 : decode cX3_entail 74 = .ok (.iconst 2, 1) := dk_5 (dk_at dksX3_entail_3 4 rfl rfl)
theorem dX3_entail_75 : decode cX3_entail 75 = .ok (.bipush 9, 2) := dk_16 9 (dk_at dksX3_entail_3 5 rfl rfl)
theorem dX3_entail_77 : decode cX3_entail 77 = .ok (.iload_n 2, 1) := dk_28 (dk_at dksX3_entail_3 7 rfl rfl)
theorem dX3_entail_78 : decode cX3_entail 78 = .ok (.invokevirtual 70, 3) := dk_182 0 70 (dk_at dksX3_entail_3 8 rfl rfl)
theorem dX3_entail_81 : decode cX3_entail 81 = .ok (.ireturn, 1) := dk_172 (dk_at dksX3_entail_3 11 rfl rfl)
theorem dX3_entail_82 : decode cX3_entail 82 = .ok (.aload_n 0, 1) := dk_42 (dk_at dksX3_entail_3 12 rfl rfl)
theorem dX3_entail_83 : decode cX3_entail 83 = .ok (.aload_n 0, 1) := dk_42 (dk_at dksX3_entail_3 13 rfl rfl)
theorem dX3_entail_84 : decode cX3_entail 84 = .ok (.getfield 7, 3) := dk_180 0 7 (dk_at dksX3_entail_3 14 rfl rfl)
theorem dX3_entail_87 : decode cX3_entail 87 = .ok (.invokevirtual 74, 3) := dk_182 0 74 (dk_at dksX3_entail_3 17 rfl rfl)
theorem dX3_entail_90 : decode cX3_entail 90 = .ok (.aload_n 0, 1) := dk_42 (dk_at dksX3_entail_3 20 rfl rfl)
theorem dX3_entail_91 : decode cX3_entail 91 = .ok (.iload_n 1, 1) := dk_27 (dk_at dksX3_entail_3 21 rfl rfl)
theorem dX3_entail_92 : decode cX3_entail 92 = .ok (.iconst 3, 1) := dk_6 (dk_at dksX3_entail_3 22 rfl rfl)
theorem dX3_entail_93 : decode cX3_entail 93 = .ok (.iconst 1, 1) := dk_4 (dk_at dksX3_entail_3 23 rfl rfl)
theorem dX3_entail_94 : decode cX3_entail 94 = .ok (.invokevirtual 114, 3) := dk_182 0 114 (dk_at dksX3_entail_4 0 rfl rfl)
theorem dX3_entail_97 : decode cX3_entail 97 = .ok (.iload_n 2, 1) := dk_28 (dk_at dksX3_entail_4 3 rfl rfl)
theorem dX3_entail_98 : decode cX3_entail 98 = .ok (.ireturn, 1) := dk_172 (dk_at dksX3_entail_4 4 rfl rfl)
def dkwX3_breakEntail_3 : List UInt8 := [27, 5, 42, 27, 5, 182, 0, 101, 4, 96, 5, 108, 182, 0, 114, 42, 27, 5, 182, 0, 101, 172]
abbrev dktX3_breakEntail_3 : List UInt8 := dkwX3_breakEntail_3 ++ []
def dkwX3_breakEntail_2 : List UInt8 := [5, 16, 8, 27, 182, 0, 70, 172, 42, 42, 180, 0, 7, 182, 0, 74, 42, 27, 6, 3, 182, 0, 114, 42]
abbrev dktX3_breakEntail_2 : List UInt8 := dkwX3_breakEntail_2 ++ dktX3_breakEntail_3
def dkwX3_breakEntail_1 : List UInt8 := [182, 0, 160, 153, 0, 11, 42, 5, 8, 27, 182, 0, 70, 172, 42, 27, 6, 182, 0, 101, 154, 0, 12, 42]
abbrev dktX3_breakEntail_1 : List UInt8 := dkwX3_breakEntail_1 ++ dktX3_breakEntail_2
def dkwX3_breakEntail_0 : List UInt8 := [42, 42, 27, 182, 0, 157, 153, 0, 7, 3, 167, 0, 4, 4, 182, 0, 82, 153, 0, 5, 3, 172, 42, 27]
abbrev dktX3_breakEntail_0 : List UInt8 := dkwX3_breakEntail_0 ++ dktX3_breakEntail_1
theorem dksX3_breakEntail_0 : cX3_breakEntail.data.toList.drop 0 = dktX3_breakEntail_0 := by decide +kernel
theorem dksX3_breakEntail_1 : cX3_breakEntail.data.toList.drop 24 = dktX3_breakEntail_1 := dk_seg dksX3_breakEntail_0 24 rfl rfl
theorem dksX3_breakEntail_2 : cX3_breakEntail.data.toList.drop 48 = dktX3_breakEntail_2 := dk_seg dksX3_breakEntail_1 24 rfl rfl
theorem dksX3_breakEntail_3 : cX3_breakEntail.data.toList.drop 72 = dktX3_breakEntail_3 := dk_seg dksX3_breakEntail_2 24 rfl rfl
theorem dX3_breakEntail_0 : decode cX3_breakEntail 0 = .ok (.aload_n 0, 1) := dk_42 (dk_at dksX3_breakEntail_0 0 rfl rfl)
theorem dX3_breakEntail_1 : decode cX3_breakEntail 1 = .ok (.aload_n 0, 1) := dk_42 (dk_at dksX3_breakEntail_0 1 rfl rfl)
theorem dX3_breakEntail_2 : decode cX3_breakEntail 2 = .ok (.iload_n 1, 1) := dk_27 (dk_at dksX3_breakEntail_0 2 rfl rfl)
theorem dX3_breakEntail_3 : decode cX3_breakEntail 3 = .ok (.invokevirtual 157, 3) := dk_182 0 157 (dk_at dksX3_breakEntail_0 3 rfl rfl)
theorem dX3_breakEntail_6 : decode cX3_breakEntail 6 = .ok (.ifCond .eq 7, 3) := dk_153 0 7 (dk_at dksX3_breakEntail_0 6 rfl rfl)
theorem dX3_breakEntail_9 : decode cX3_breakEntail 9 = .ok (.iconst 0, 1) := dk_3 (dk_at dksX3_breakEntail_0 9 rfl rfl)
theorem dX3_breakEntail_10 : decode cX3_breakEntail 10 = .ok (.goto 4, 3) := dk_167 0 4 (dk_at dksX3_breakEntail_0 10 rfl rfl)
theorem dX3_breakEntail_13 : decode cX3_breakEntail 13 = .ok (.iconst 1, 1) := dk_4 (dk_at dksX3_breakEntail_0 13 rfl rfl)
theorem dX3_breakEntail_14 : decode cX3_breakEntail 14 = .ok (.invokevirtual 82, 3) := dk_182 0 82 (dk_at dksX3_breakEntail_0 14 rfl rfl)
theorem dX3_breakEntail_17 : decode cX3_breakEntail 17 = .ok (.ifCond .eq 5, 3) := dk_153 0 5 (dk_at dksX3_breakEntail_0 17 rfl rfl)
theorem dX3_breakEntail_20 : decode cX3_breakEntail 20 = .ok (.iconst 0, 1) := dk_3 (dk_at dksX3_breakEntail_0 20 rfl rfl)
theorem dX3_breakEntail_21 : decode cX3_breakEntail 21 = .ok (.ireturn, 1) := dk_172 (dk_at dksX3_breakEntail_0 21 rfl rfl)
theorem dX3_breakEntail_22 : decode cX3_breakEntail 22 = .ok (.aload_n 0, 1) := dk_42 (dk_at dksX3_breakEntail_0 22 rfl rfl)
theorem dX3_breakEntail_23 : decode cX3_breakEntail 23 = .ok (.iload_n 1, 1) := dk_27 (dk_at dksX3_breakEntail_0 23 rfl rfl)
theorem dX3_breakEntail_24 : decode cX3_breakEntail 24 = .ok (.invokevirtual 160, 3) := dk_182 0 160 (dk_at dksX3_breakEntail_1 0 rfl rfl)
theorem dX3_breakEntail_27 : decode cX3_breakEntail 27 = .ok (.ifCond .eq 11, 3) := dk_153 0 11 (dk_at dksX3_breakEntail_1 3 rfl rfl)
theorem dX3_breakEntail_30 : decode cX3_breakEntail 30 = .ok (.aload_n 0, 1) := dk_42 (dk_at dksX3_breakEntail_1 6 rfl rfl)
theorem dX3_breakEntail_31 : decode cX3_breakEntail 31 = .ok (.iconst 2, 1) := dk_5 (dk_at dksX3_breakEntail_1 7 rfl rfl)
theorem dX3_breakEntail_32 : decode cX3_breakEntail 32 = .ok (.iconst 5, 1) := dk_8 (dk_at dksX3_breakEntail_1 8 rfl rfl)
theorem dX3_breakEntail_33 : decode cX3_breakEntail 33 = .ok (.iload_n 1, 1) := dk_27 (dk_at dksX3_breakEntail_1 9 rfl rfl)
theorem dX3_breakEntail_34 : decode cX3_breakEntail 34 = .ok (.invokevirtual 70, 3) := dk_182 0 70 (dk_at dksX3_breakEntail_1 10 rfl rfl)
theorem dX3_breakEntail_37 : decode cX3_breakEntail 37 = .ok (.ireturn, 1) := dk_172 (dk_at dksX3_breakEntail_1 13 rfl rfl)
theorem dX3_breakEntail_38 : decode cX3_breakEntail 38 = .ok (.aload_n 0, 1) := dk_42 (dk_at dksX3_breakEntail_1 14 rfl rfl)
theorem dX3_breakEntail_39 : decode cX3_breakEntail 39 = .ok (.iload_n 1, 1) := dk_27 (dk_at dksX3_breakEntail_1 15 rfl rfl)
theorem dX3_breakEntail_40 : decode cX3_breakEntail 40 = .ok (.iconst 3, 1) := dk_6 (dk_at dksX3_breakEntail_1 16 rfl rfl)
theorem dX3_breakEntail_41 : decode cX3_breakEntail 41 = .ok (.invokevirtual 101, 3) := dk_182 0 101 (dk_at dksX3_breakEntail_1 17 rfl rfl)
theorem dX3_breakEntail_44 : decode cX3_breakEntail 44 = .ok (.ifCond .ne 12, 3) := dk_154 0 12 (dk_at dksX3_breakEntail_1 20 rfl rfl)
theorem dX3_breakEntail_47 : decode cX3_breakEntail 47 = .ok (.aload_n 0, 1) := dk_42 (dk_at dksX3_breakEntail_1 23 rfl rfl)
theorem dX3_breakEntail_48 : decode cX3_breakEntail 48 = .ok (.iconst 2, 1) := dk_5 (dk_at dksX3_breakEntail_2 0 rfl rfl)
theorem dX3_breakEntail_49 : decode cX3_breakEntail 49 = .ok (.bipush 8, 2) := dk_16 8 (dk_at dksX3_breakEntail_2 1 rfl rfl)
theorem dX3_breakEntail_51 : decode cX3_breakEntail 51 = .ok (.iload_n 1, 1) := dk_27 (dk_at dksX3_breakEntail_2 3 rfl rfl)
theorem dX3_breakEntail_52 : decode cX3_breakEntail 52 = .ok (.invokevirtual 70, 3) := dk_182 0 70 (dk_at dksX3_breakEntail_2 4 rfl rfl)
theorem dX3_breakEntail_55 : decode cX3_breakEntail 55 = .ok (.ireturn, 1) := dk_172 (dk_at dksX3_breakEntail_2 7 rfl rfl)
theorem dX3_breakEntail_56 : decode cX3_breakEntail 56 = .ok (.aload_n 0, 1) := dk_42 (dk_at dksX3_breakEntail_2 8 rfl rfl)
theorem dX3_breakEntail_57 : decode cX3_breakEntail 57 = .ok (.aload_n 0, 1) := dk_42 (dk_at dksX3_breakEntail_2 9 rfl rfl)
theorem dX3_breakEntail_58 : decode cX3_breakEntail 58 = .ok (.getfield 7, 3) := dk_180 0 7 (dk_at dksX3_breakEntail_2 10 rfl rfl)
theorem dX3_breakEntail_61 : decode cX3_breakEntail 61 = .ok (.invokevirtual 74, 3) := dk_182 0 74 (dk_at dksX3_breakEntail_2 13 rfl rfl)
theorem dX3_breakEntail_64 : decode cX3_breakEntail 64 = .ok (.aload_n 0, 1) := dk_42 (dk_at dksX3_breakEntail_2 16 rfl rfl)
theorem dX3_breakEntail_65 : decode cX3_breakEntail 65 = .ok (.iload_n 1, 1) := dk_27 (dk_at dksX3_breakEntail_2 17 rfl rfl)
theorem dX3_breakEntail_66 : decode cX3_breakEntail 66 = .ok (.iconst 3, 1) := dk_6 (dk_at dksX3_breakEntail_2 18 rfl rfl)
theorem dX3_breakEntail_67 : decode cX3_breakEntail 67 = .ok (.iconst 0, 1) := dk_3 (dk_at dksX3_breakEntail_2 19 rfl rfl)
theorem dX3_breakEntail_68 : decode cX3_breakEntail 68 = .ok (.invokevirtual 114, 3) := dk_182 0 114 (dk_at dksX3_breakEntail_2 20 rfl rfl)
theorem dX3_breakEntail_71 : decode cX3_breakEntail 71 = .ok (.aload_n 0, 1) := dk_42 (dk_at dksX3_breakEntail_2 23 rfl rfl)
theorem dX3_breakEntail_72 : decode cX3_breakEntail 72 = .ok (.iload_n 1, 1) := dk_27 (dk_at dksX3_breakEntail_3 0 rfl rfl)
theorem dX3_breakEntail_73 : decode cX3_breakEntail 73 = .ok (.iconst 2, 1) := dk_5 (dk_at dksX3_breakEntail_3 1 rfl rfl)
theorem dX3_breakEntail_74 : decode cX3_breakEntail 74 = .ok (.aload_n 0, 1) := dk_42 (dk_at dksX3_breakEntail_3 2 rfl rfl)
theorem dX3_breakEntail_75 : decode cX3_breakEntail 75 = .ok (.iload_n 1, 1) := dk_27 (dk_at dksX3_breakEntail_3 3 rfl rfl)
theorem dX3_breakEntail_76 : decode cX3_breakEntail 76 = .ok (.iconst 2, 1) := dk_5 (dk_at dksX3_breakEntail_3 4 rfl rfl)
theorem dX3_breakEntail_77 : decode cX3_breakEntail 77 = .ok (.invokevirtual 101, 3) := dk_182 0 101 (dk_at dksX3_breakEntail_3 5 rfl rfl)
theorem dX3_breakEntail_80 : decode cX3_breakEntail 80 = .ok (.iconst 1, 1) := dk_4 (dk_at dksX3_breakEntail_3 8 rfl rfl)
theorem dX3_breakEntail_81 : decode cX3_breakEntail 81 = .ok (.iadd, 1) := dk_96 (dk_at dksX3_breakEntail_3 9 rfl rfl)
theorem dX3_breakEntail_82 : decode cX3_breakEntail 82 = .ok (.iconst 2, 1) := dk_5 (dk_at dksX3_breakEntail_3 10 rfl rfl)
theorem dX3_breakEntail_83 : decode cX3_breakEntail 83 = .ok (.idiv, 1) := dk_108 (dk_at dksX3_breakEntail_3 11 rfl rfl)
theorem dX3_breakEntail_84 : decode cX3_breakEntail 84 = .ok (.invokevirtual 114, 3) := dk_182 0 114 (dk_at dksX3_breakEntail_3 12 rfl rfl)
theorem dX3_breakEntail_87 : decode cX3_breakEntail 87 = .ok (.aload_n 0, 1) := dk_42 (dk_at dksX3_breakEntail_3 15 rfl rfl)
theorem dX3_breakEntail_88 : decode cX3_breakEntail 88 = .ok (.iload_n 1, 1) := dk_27 (dk_at dksX3_breakEntail_3 16 rfl rfl)
theorem dX3_breakEntail_89 : decode cX3_breakEntail 89 = .ok (.iconst 2, 1) := dk_5 (dk_at dksX3_breakEntail_3 17 rfl rfl)
theorem dX3_breakEntail_90 : decode cX3_breakEntail 90 = .ok (.invokevirtual 101, 3) := dk_182 0 101 (dk_at dksX3_breakEntail_3 18 rfl rfl)
theorem dX3_breakEntail_93 : decode cX3_breakEntail 93 = .ok (.ireturn, 1) := dk_172 (dk_at dksX3_breakEntail_3 21 rfl rfl)
def dkwX3_give_7 : List UInt8 := [42, 27, 3, 28, 182, 0, 114, 21, 4, 172]
abbrev dktX3_give_7 : List UInt8 := dkwX3_give_7 ++ []
def dkwX3_give_6 : List UInt8 := [54, 5, 21, 5, 155, 0, 12, 42, 5, 7, 21, 5, 182, 0, 70, 172, 42, 42, 180, 0, 7, 182, 0, 74]
abbrev dktX3_give_6 : List UInt8 := dkwX3_give_6 ++ dktX3_give_7
def dkwX3_give_5 : List UInt8 := [164, 0, 13, 42, 5, 16, 11, 21, 4, 182, 0, 70, 172, 42, 28, 42, 27, 4, 182, 0, 101, 182, 0, 111]
abbrev dktX3_give_5 : List UInt8 := dkwX3_give_5 ++ dktX3_give_6
def dkwX3_give_4 : List UInt8 := [5, 16, 10, 28, 182, 0, 70, 172, 42, 29, 28, 182, 0, 147, 54, 4, 21, 4, 155, 0, 9, 21, 4, 6]
abbrev dktX3_give_4 : List UInt8 := dkwX3_give_4 ++ dktX3_give_5
def dkwX3_give_3 : List UInt8 := [154, 0, 11, 42, 5, 6, 28, 182, 0, 70, 172, 42, 27, 3, 182, 0, 101, 62, 29, 28, 160, 0, 12, 42]
abbrev dktX3_give_3 : List UInt8 := dkwX3_give_3 ++ dktX3_give_4
def dkwX3_give_2 : List UInt8 := [42, 27, 6, 182, 0, 101, 4, 160, 0, 12, 42, 5, 16, 7, 27, 182, 0, 70, 172, 42, 28, 182, 0, 85]
abbrev dktX3_give_2 : List UInt8 := dkwX3_give_2 ++ dktX3_give_3
def dkwX3_give_1 : List UInt8 := [182, 0, 82, 153, 0, 5, 3, 172, 42, 27, 182, 0, 160, 153, 0, 11, 42, 5, 8, 27, 182, 0, 70, 172]
abbrev dktX3_give_1 : List UInt8 := dkwX3_give_1 ++ dktX3_give_2
def dkwX3_give_0 : List UInt8 := [42, 42, 27, 182, 0, 157, 153, 0, 15, 42, 28, 182, 0, 66, 153, 0, 7, 3, 167, 0, 4, 4]
abbrev dktX3_give_0 : List UInt8 := dkwX3_give_0 ++ dktX3_give_1
theorem dksX3_give_0 : cX3_give.data.toList.drop 0 = dktX3_give_0 := by decide +kernel
theorem dksX3_give_1 : cX3_give.data.toList.drop 22 = dktX3_give_1 := dk_seg dksX3_give_0 22 rfl rfl
theorem dksX3_give_2 : cX3_give.data.toList.drop 46 = dktX3_give_2 := dk_seg dksX3_give_1 24 rfl rfl
theorem dksX3_give_3 : cX3_give.data.toList.drop 70 = dktX3_give_3 := dk_seg dksX3_give_2 24 rfl rfl
theorem dksX3_give_4 : cX3_give.data.toList.drop 94 = dktX3_give_4 := dk_seg dksX3_give_3 24 rfl rfl
theorem dksX3_give_5 : cX3_give.data.toList.drop 118 = dktX3_give_5 := dk_seg dksX3_give_4 24 rfl rfl
theorem dksX3_give_6 : cX3_give.data.toList.drop 142 = dktX3_give_6 := dk_seg dksX3_give_5 24 rfl rfl
theorem dksX3_give_7 : cX3_give.data.toList.drop 166 = dktX3_give_7 := dk_seg dksX3_give_6 24 rfl rfl
theorem dX3_give_0 : decode cX3_give 0 = .ok (.aload_n 0, 1) := dk_42 (dk_at dksX3_give_0 0 rfl rfl)
theorem dX3_give_1 : decode cX3_give 1 = .ok (.aload_n 0, 1) := dk_42 (dk_at dksX3_give_0 1 rfl rfl)
theorem dX3_give_2 : decode cX3_give 2 = .ok (.iload_n 1, 1) := dk_27 (dk_at dksX3_give_0 2 rfl rfl)
theorem dX3_give_3 : decode cX3_give 3 = .ok (.invokevirtual 157, 3) := dk_182 0 157 (dk_at dksX3_give_0 3 rfl rfl)
theorem dX3_give_6 : decode cX3_give 6 = .ok (.ifCond .eq 15, 3) := dk_153 0 15 (dk_at dksX3_give_0 6 rfl rfl)
theorem dX3_give_9 : decode cX3_give 9 = .ok (.aload_n 0, 1) := dk_42 (dk_at dksX3_give_0 9 rfl rfl)
theorem dX3_give_10 : decode cX3_give 10 = .ok (.iload_n 2, 1) := dk_28 (dk_at dksX3_give_0 10 rfl rfl)
theorem dX3_give_11 : decode cX3_give 11 = .ok (.invokevirtual 66, 3) := dk_182 0 66 (dk_at dksX3_give_0 11 rfl rfl)
theorem dX3_give_14 : decode cX3_give 14 = .ok (.ifCond .eq 7, 3) := dk_153 0 7 (dk_at dksX3_give_0 14 rfl rfl)
theorem dX3_give_17 : decode cX3_give 17 = .ok (.iconst 0, 1) := dk_3 (dk_at dksX3_give_0 17 rfl rfl)
theorem dX3_give_18 : decode cX3_give 18 = .ok (.goto 4, 3) := dk_167 0 4 (dk_at dksX3_give_0 18 rfl rfl)
theorem dX3_give_21 : decode cX3_give 21 = .ok (.iconst 1, 1) := dk_4 (dk_at dksX3_give_0 21 rfl rfl)
theorem dX3_give_22 : decode cX3_give 22 = .ok (.invokevirtual 82, 3) := dk_182 0 82 (dk_at dksX3_give_1 0 rfl rfl)
theorem dX3_give_25 : decode cX3_give 25 = .ok (.ifCond .eq 5, 3) := dk_153 0 5 (dk_at dksX3_give_1 3 rfl rfl)
theorem dX3_give_28 : decode cX3_give 28 = .ok (.iconst 0, 1) := dk_3 (dk_at dksX3_give_1 6 rfl rfl)
theorem dX3_give_29 : decode cX3_give 29 = .ok (.ireturn, 1) := dk_172 (dk_at dksX3_give_1 7 rfl rfl)
theorem dX3_give_30 : decode cX3_give 30 = .ok (.aload_n 0, 1) := dk_42 (dk_at dksX3_give_1 8 rfl rfl)
theorem dX3_give_31 : decode cX3_give 31 = .ok (.iload_n 1, 1) := dk_27 (dk_at dksX3_give_1 9 rfl rfl)
theorem dX3_give_32 : decode cX3_give 32 = .ok (.invokevirtual 160, 3) := dk_182 0 160 (dk_at dksX3_give_1 10 rfl rfl)
theorem dX3_give_35 : decode cX3_give 35 = .ok (.ifCond .eq 11, 3) := dk_153 0 11 (dk_at dksX3_give_1 13 rfl rfl)
theorem dX3_give_38 : decode cX3_give 38 = .ok (.aload_n 0, 1) := dk_42 (dk_at dksX3_give_1 16 rfl rfl)
theorem dX3_give_39 : decode cX3_give 39 = .ok (.iconst 2, 1) := dk_5 (dk_at dksX3_give_1 17 rfl rfl)
theorem dX3_give_40 : decode cX3_give 40 = .ok (.iconst 5, 1) := dk_8 (dk_at dksX3_give_1 18 rfl rfl)
theorem dX3_give_41 : decode cX3_give 41 = .ok (.iload_n 1, 1) := dk_27 (dk_at dksX3_give_1 19 rfl rfl)
theorem dX3_give_42 : decode cX3_give 42 = .ok (.invokevirtual 70, 3) := dk_182 0 70 (dk_at dksX3_give_1 20 rfl rfl)
theorem dX3_give_45 : decode cX3_give 45 = .ok (.ireturn, 1) := dk_172 (dk_at dksX3_give_1 23 rfl rfl)
theorem dX3_give_46 : decode cX3_give 46 = .ok (.aload_n 0, 1) := dk_42 (dk_at dksX3_give_2 0 rfl rfl)
theorem dX3_give_47 : decode cX3_give 47 = .ok (.iload_n 1, 1) := dk_27 (dk_at dksX3_give_2 1 rfl rfl)
theorem dX3_give_48 : decode cX3_give 48 = .ok (.iconst 3, 1) := dk_6 (dk_at dksX3_give_2 2 rfl rfl)
theorem dX3_give_49 : decode cX3_give 49 = .ok (.invokevirtual 101, 3) := dk_182 0 101 (dk_at dksX3_give_2 3 rfl rfl)
theorem dX3_give_52 : decode cX3_give 52 = .ok (.iconst 1, 1) := dk_4 (dk_at dksX3_give_2 6 rfl rfl)
theorem dX3_give_53 : decode cX3_give 53 = .ok (.if_icmp .ne 12, 3) := dk_160 0 12 (dk_at dksX3_give_2 7 rfl rfl)
theorem dX3_give_56 : decode cX3_give 56 = .ok (.aload_n 0, 1) := dk_42 (dk_at dksX3_give_2 10 rfl rfl)
theorem dX3_give_57 : decode cX3_give 57 = .ok (.iconst 2, 1) := dk_5 (dk_at dksX3_give_2 11 rfl rfl)
theorem dX3_give_58 : decode cX3_give 58 = .ok (.bipush 7, 2) := dk_16 7 (dk_at dksX3_give_2 12 rfl rfl)
theorem dX3_give_60 : decode cX3_give 60 = .ok (.iload_n 1, 1) := dk_27 (dk_at dksX3_give_2 14 rfl rfl)
theorem dX3_give_61 : decode cX3_give 61 = .ok (.invokevirtual 70, 3) := dk_182 0 70 (dk_at dksX3_give_2 15 rfl rfl)
theorem dX3_give_64 : decode cX3_give 64 = .ok (.ireturn, 1) := dk_172 (dk_at dksX3_give_2 18 rfl rfl)
theorem dX3_give_65 : decode cX3_give 65 = .ok (.aload_n 0, 1) := dk_42 (dk_at dksX3_give_2 19 rfl rfl)
theorem dX3_give_66 : decode cX3_give 66 = .ok (.iload_n 2, 1) := dk_28 (dk_at dksX3_give_2 20 rfl rfl)
theorem dX3_give_67 : decode cX3_give 67 = .ok (.invokevirtual 85, 3) := dk_182 0 85 (dk_at dksX3_give_2 21 rfl rfl)
theorem dX3_give_70 : decode cX3_give 70 = .ok (.ifCond .ne 11, 3) := dk_154 0 11 (dk_at dksX3_give_3 0 rfl rfl)
theorem dX3_give_73 : decode cX3_give 73 = .ok (.aload_n 0, 1) := dk_42 (dk_at dksX3_give_3 3 rfl rfl)
theorem dX3_give_74 : decode cX3_give 74 = .ok (.iconst 2, 1) := dk_5 (dk_at dksX3_give_3 4 rfl rfl)
theorem dX3_give_75 : decode cX3_give 75 = .ok (.iconst 3, 1) := dk_6 (dk_at dksX3_give_3 5 rfl rfl)
theorem dX3_give_76 : decode cX3_give 76 = .ok (.iload_n 2, 1) := dk_28 (dk_at dksX3_give_3 6 rfl rfl)
theorem dX3_give_77 : decode cX3_give 77 = .ok (.invokevirtual 70, 3) := dk_182 0 70 (dk_at dksX3_give_3 7 rfl rfl)
theorem dX3_give_80 : decode cX3_give 80 = .ok (.ireturn, 1) := dk_172 (dk_at dksX3_give_3 10 rfl rfl)
theorem dX3_give_81 : decode cX3_give 81 = .ok (.aload_n 0, 1) := dk_42 (dk_at dksX3_give_3 11 rfl rfl)
theorem dX3_give_82 : decode cX3_give 82 = .ok (.iload_n 1, 1) := dk_27 (dk_at dksX3_give_3 12 rfl rfl)
theorem dX3_give_83 : decode cX3_give 83 = .ok (.iconst 0, 1) := dk_3 (dk_at dksX3_give_3 13 rfl rfl)
theorem dX3_give_84 : decode cX3_give 84 = .ok (.invokevirtual 101, 3) := dk_182 0 101 (dk_at dksX3_give_3 14 rfl rfl)
theorem dX3_give_87 : decode cX3_give 87 = .ok (.istore_n 3, 1) := dk_62 (dk_at dksX3_give_3 17 rfl rfl)
theorem dX3_give_88 : decode cX3_give 88 = .ok (.iload_n 3, 1) := dk_29 (dk_at dksX3_give_3 18 rfl rfl)
theorem dX3_give_89 : decode cX3_give 89 = .ok (.iload_n 2, 1) := dk_28 (dk_at dksX3_give_3 19 rfl rfl)
theorem dX3_give_90 : decode cX3_give 90 = .ok (.if_icmp .ne 12, 3) := dk_160 0 12 (dk_at dksX3_give_3 20 rfl rfl)
theorem dX3_give_93 : decode cX3_give 93 = .ok (.aload_n 0, 1) := dk_42 (dk_at dksX3_give_3 23 rfl rfl)
theorem dX3_give_94 : decode cX3_give 94 = .ok (.iconst 2, 1) := dk_5 (dk_at dksX3_give_4 0 rfl rfl)
theorem dX3_give_95 : decode cX3_give 95 = .ok (.bipush 10, 2) := dk_16 10 (dk_at dksX3_give_4 1 rfl rfl)
theorem dX3_give_97 : decode cX3_give 97 = .ok (.iload_n 2, 1) := dk_28 (dk_at dksX3_give_4 3 rfl rfl)
theorem dX3_give_98 : decode cX3_give 98 = .ok (.invokevirtual 70, 3) := dk_182 0 70 (dk_at dksX3_give_4 4 rfl rfl)
theorem dX3_give_101 : decode cX3_give 101 = .ok (.ireturn, 1) := dk_172 (dk_at dksX3_give_4 7 rfl rfl)
theorem dX3_give_102 : decode cX3_give 102 = .ok (.aload_n 0, 1) := dk_42 (dk_at dksX3_give_4 8 rfl rfl)
theorem dX3_give_103 : decode cX3_give 103 = .ok (.iload_n 3, 1) := dk_29 (dk_at dksX3_give_4 9 rfl rfl)
theorem dX3_give_104 : decode cX3_give 104 = .ok (.iload_n 2, 1) := dk_28 (dk_at dksX3_give_4 10 rfl rfl)
theorem dX3_give_105 : decode cX3_give 105 = .ok (.invokevirtual 147, 3) := dk_182 0 147 (dk_at dksX3_give_4 11 rfl rfl)
theorem dX3_give_108 : decode cX3_give 108 = .ok (.istore 4, 2) := dk_54 4 (dk_at dksX3_give_4 14 rfl rfl)
theorem dX3_give_110 : decode cX3_give 110 = .ok (.iload 4, 2) := dk_21 4 (dk_at dksX3_give_4 16 rfl rfl)
theorem dX3_give_112 : decode cX3_give 112 = .ok (.ifCond .lt 9, 3) := dk_155 0 9 (dk_at dksX3_give_4 18 rfl rfl)
theorem dX3_give_115 : decode cX3_give 115 = .ok (.iload 4, 2) := dk_21 4 (dk_at dksX3_give_4 21 rfl rfl)
theorem dX3_give_117 : decode cX3_give 117 = .ok (.iconst 3, 1) := dk_6 (dk_at dksX3_give_4 23 rfl rfl)
theorem dX3_give_118 : decode cX3_give 118 = .ok (.if_icmp .le 13, 3) := dk_164 0 13 (dk_at dksX3_give_5 0 rfl rfl)
theorem dX3_give_121 : decode cX3_give 121 = .ok (.aload_n 0, 1) := dk_42 (dk_at dksX3_give_5 3 rfl rfl)
theorem dX3_give_122 : decode cX3_give 122 = .ok (.iconst 2, 1) := dk_5 (dk_at dksX3_give_5 4 rfl rfl)
theorem dX3_give_123 : decode cX3_give 123 = .ok (.bipush 11, 2) := dk_16 11 (dk_at dksX3_give_5 5 rfl rfl)
theorem dX3_give_125 : decode cX3_give 125 = .ok (.iload 4, 2) := dk_21 4 (dk_at dksX3_give_5 7 rfl rfl)
theorem dX3_give_127 : decode cX3_give 127 = .ok (.invokevirtual 70, 3) := dk_182 0 70 (dk_at dksX3_give_5 9 rfl rfl)
theorem dX3_give_130 : decode cX3_give 130 = .ok (.ireturn, 1) := dk_172 (dk_at dksX3_give_5 12 rfl rfl)
theorem dX3_give_131 : decode cX3_give 131 = .ok (.aload_n 0, 1) := dk_42 (dk_at dksX3_give_5 13 rfl rfl)
theorem dX3_give_132 : decode cX3_give 132 = .ok (.iload_n 2, 1) := dk_28 (dk_at dksX3_give_5 14 rfl rfl)
theorem dX3_give_133 : decode cX3_give 133 = .ok (.aload_n 0, 1) := dk_42 (dk_at dksX3_give_5 15 rfl rfl)
theorem dX3_give_134 : decode cX3_give 134 = .ok (.iload_n 1, 1) := dk_27 (dk_at dksX3_give_5 16 rfl rfl)
theorem dX3_give_135 : decode cX3_give 135 = .ok (.iconst 1, 1) := dk_4 (dk_at dksX3_give_5 17 rfl rfl)
theorem dX3_give_136 : decode cX3_give 136 = .ok (.invokevirtual 101, 3) := dk_182 0 101 (dk_at dksX3_give_5 18 rfl rfl)
theorem dX3_give_139 : decode cX3_give 139 = .ok (.invokevirtual 111, 3) := dk_182 0 111 (dk_at dksX3_give_5 21 rfl rfl)
theorem dX3_give_142 : decode cX3_give 142 = .ok (.istore 5, 2) := dk_54 5 (dk_at dksX3_give_6 0 rfl rfl)
theorem dX3_give_144 : decode cX3_give 144 = .ok (.iload 5, 2) := dk_21 5 (dk_at dksX3_give_6 2 rfl rfl)
theorem dX3_give_146 : decode cX3_give 146 = .ok (.ifCond .lt 12, 3) := dk_155 0 12 (dk_at dksX3_give_6 4 rfl rfl)
theorem dX3_give_149 : decode cX3_give 149 = .ok (.aload_n 0, 1) := dk_42 (dk_at dksX3_give_6 7 rfl rfl)
theorem dX3_give_150 : decode cX3_give 150 = .ok (.iconst 2, 1) := dk_5 (dk_at dksX3_give_6 8 rfl rfl)
theorem dX3_give_151 : decode cX3_give 151 = .ok (.iconst 4, 1) := dk_7 (dk_at dksX3_give_6 9 rfl rfl)
theorem dX3_give_152 : decode cX3_give 152 = .ok (.iload 5, 2) := dk_21 5 (dk_at dksX3_give_6 10 rfl rfl)
theorem dX3_give_154 : decode cX3_give 154 = .ok (.invokevirtual 70, 3) := dk_182 0 70 (dk_at dksX3_give_6 12 rfl rfl)
theorem dX3_give_157 : decode cX3_give 157 = .ok (.ireturn, 1) := dk_172 (dk_at dksX3_give_6 15 rfl rfl)
theorem dX3_give_158 : decode cX3_give 158 = .ok (.aload_n 0, 1) := dk_42 (dk_at dksX3_give_6 16 rfl rfl)
theorem dX3_give_159 : decode cX3_give 159 = .ok (.aload_n 0, 1) := dk_42 (dk_at dksX3_give_6 17 rfl rfl)
theorem dX3_give_160 : decode cX3_give 160 = .ok (.getfield 7, 3) := dk_180 0 7 (dk_at dksX3_give_6 18 rfl rfl)
theorem dX3_give_163 : decode cX3_give 163 = .ok (.invokevirtual 74, 3) := dk_182 0 74 (dk_at dksX3_give_6 21 rfl rfl)
theorem dX3_give_166 : decode cX3_give 166 = .ok (.aload_n 0, 1) := dk_42 (dk_at dksX3_give_7 0 rfl rfl)
theorem dX3_give_167 : decode cX3_give 167 = .ok (.iload_n 1, 1) := dk_27 (dk_at dksX3_give_7 1 rfl rfl)
theorem dX3_give_168 : decode cX3_give 168 = .ok (.iconst 0, 1) := dk_3 (dk_at dksX3_give_7 2 rfl rfl)
theorem dX3_give_169 : decode cX3_give 169 = .ok (.iload_n 2, 1) := dk_28 (dk_at dksX3_give_7 3 rfl rfl)
theorem dX3_give_170 : decode cX3_give 170 = .ok (.invokevirtual 114, 3) := dk_182 0 114 (dk_at dksX3_give_7 4 rfl rfl)
theorem dX3_give_173 : decode cX3_give 173 = .ok (.iload 4, 2) := dk_21 4 (dk_at dksX3_give_7 7 rfl rfl)
theorem dX3_give_175 : decode cX3_give 175 = .ok (.ireturn, 1) := dk_172 (dk_at dksX3_give_7 9 rfl rfl)
def dkwX3_habitCount_0 : List UInt8 := [42, 3, 181, 0, 36, 42, 180, 0, 7, 4, 46, 172]
abbrev dktX3_habitCount_0 : List UInt8 := dkwX3_habitCount_0 ++ []
theorem dksX3_habitCount_0 : cX3_habitCount.data.toList.drop 0 = dktX3_habitCount_0 := by decide +kernel
theorem dX3_habitCount_0 : decode cX3_habitCount 0 = .ok (.aload_n 0, 1) := dk_42 (dk_at dksX3_habitCount_0 0 rfl rfl)
theorem dX3_habitCount_1 : decode cX3_habitCount 1 = .ok (.iconst 0, 1) := dk_3 (dk_at dksX3_habitCount_0 1 rfl rfl)
theorem dX3_habitCount_2 : decode cX3_habitCount 2 = .ok (.putfield 36, 3) := dk_181 0 36 (dk_at dksX3_habitCount_0 2 rfl rfl)
theorem dX3_habitCount_5 : decode cX3_habitCount 5 = .ok (.aload_n 0, 1) := dk_42 (dk_at dksX3_habitCount_0 5 rfl rfl)
theorem dX3_habitCount_6 : decode cX3_habitCount 6 = .ok (.getfield 7, 3) := dk_180 0 7 (dk_at dksX3_habitCount_0 6 rfl rfl)
theorem dX3_habitCount_9 : decode cX3_habitCount 9 = .ok (.iconst 1, 1) := dk_4 (dk_at dksX3_habitCount_0 9 rfl rfl)
theorem dX3_habitCount_10 : decode cX3_habitCount 10 = .ok (.iaload, 1) := dk_46 (dk_at dksX3_habitCount_0 10 rfl rfl)
theorem dX3_habitCount_11 : decode cX3_habitCount 11 = .ok (.ireturn, 1) := dk_172 (dk_at dksX3_habitCount_0 11 rfl rfl)
def dkwX3_kindOf_0 : List UInt8 := [42, 27, 182, 0, 166, 153, 0, 8, 16, 32, 167, 0, 12, 42, 27, 4, 182, 0, 101, 184, 0, 169, 172]
abbrev dktX3_kindOf_0 : List UInt8 := dkwX3_kindOf_0 ++ []
theorem dksX3_kindOf_0 : cX3_kindOf.data.toList.drop 0 = dktX3_kindOf_0 := by decide +kernel
theorem dX3_kindOf_0 : decode cX3_kindOf 0 = .ok (.aload_n 0, 1) := dk_42 (dk_at dksX3_kindOf_0 0 rfl rfl)
theorem dX3_kindOf_1 : decode cX3_kindOf 1 = .ok (.iload_n 1, 1) := dk_27 (dk_at dksX3_kindOf_0 1 rfl rfl)
theorem dX3_kindOf_2 : decode cX3_kindOf 2 = .ok (.invokevirtual 166, 3) := dk_182 0 166 (dk_at dksX3_kindOf_0 2 rfl rfl)
theorem dX3_kindOf_5 : decode cX3_kindOf 5 = .ok (.ifCond .eq 8, 3) := dk_153 0 8 (dk_at dksX3_kindOf_0 5 rfl rfl)
theorem dX3_kindOf_8 : decode cX3_kindOf 8 = .ok (.bipush 32, 2) := dk_16 32 (dk_at dksX3_kindOf_0 8 rfl rfl)
theorem dX3_kindOf_10 : decode cX3_kindOf 10 = .ok (.goto 12, 3) := dk_167 0 12 (dk_at dksX3_kindOf_0 10 rfl rfl)
theorem dX3_kindOf_13 : decode cX3_kindOf 13 = .ok (.aload_n 0, 1) := dk_42 (dk_at dksX3_kindOf_0 13 rfl rfl)
theorem dX3_kindOf_14 : decode cX3_kindOf 14 = .ok (.iload_n 1, 1) := dk_27 (dk_at dksX3_kindOf_0 14 rfl rfl)
theorem dX3_kindOf_15 : decode cX3_kindOf 15 = .ok (.iconst 1, 1) := dk_4 (dk_at dksX3_kindOf_0 15 rfl rfl)
theorem dX3_kindOf_16 : decode cX3_kindOf 16 = .ok (.invokevirtual 101, 3) := dk_182 0 101 (dk_at dksX3_kindOf_0 16 rfl rfl)
theorem dX3_kindOf_19 : decode cX3_kindOf 19 = .ok (.invokestatic 169, 3) := dk_184 0 169 (dk_at dksX3_kindOf_0 19 rfl rfl)
theorem dX3_kindOf_22 : decode cX3_kindOf 22 = .ok (.ireturn, 1) := dk_172 (dk_at dksX3_kindOf_0 22 rfl rfl)
def dkwX3_isNone_0 : List UInt8 := [42, 42, 27, 182, 0, 157, 153, 0, 7, 3, 167, 0, 4, 4, 182, 0, 82, 172]
abbrev dktX3_isNone_0 : List UInt8 := dkwX3_isNone_0 ++ []
theorem dksX3_isNone_0 : cX3_isNone.data.toList.drop 0 = dktX3_isNone_0 := by decide +kernel
theorem dX3_isNone_0 : decode cX3_isNone 0 = .ok (.aload_n 0, 1) := dk_42 (dk_at dksX3_isNone_0 0 rfl rfl)
theorem dX3_isNone_1 : decode cX3_isNone 1 = .ok (.aload_n 0, 1) := dk_42 (dk_at dksX3_isNone_0 1 rfl rfl)
theorem dX3_isNone_2 : decode cX3_isNone 2 = .ok (.iload_n 1, 1) := dk_27 (dk_at dksX3_isNone_0 2 rfl rfl)
theorem dX3_isNone_3 : decode cX3_isNone 3 = .ok (.invokevirtual 157, 3) := dk_182 0 157 (dk_at dksX3_isNone_0 3 rfl rfl)
theorem dX3_isNone_6 : decode cX3_isNone 6 = .ok (.ifCond .eq 7, 3) := dk_153 0 7 (dk_at dksX3_isNone_0 6 rfl rfl)
theorem dX3_isNone_9 : decode cX3_isNone 9 = .ok (.iconst 0, 1) := dk_3 (dk_at dksX3_isNone_0 9 rfl rfl)
theorem dX3_isNone_10 : decode cX3_isNone 10 = .ok (.goto 4, 3) := dk_167 0 4 (dk_at dksX3_isNone_0 10 rfl rfl)
theorem dX3_isNone_13 : decode cX3_isNone 13 = .ok (.iconst 1, 1) := dk_4 (dk_at dksX3_isNone_0 13 rfl rfl)
theorem dX3_isNone_14 : decode cX3_isNone 14 = .ok (.invokevirtual 82, 3) := dk_182 0 82 (dk_at dksX3_isNone_0 14 rfl rfl)
theorem dX3_isNone_17 : decode cX3_isNone 17 = .ok (.ireturn, 1) := dk_172 (dk_at dksX3_isNone_0 17 rfl rfl)
def dkwX3_letterOf_0 : List UInt8 := [26, 154, 0, 8, 16, 100, 167, 0, 15, 26, 4, 160, 0, 8, 16, 115, 167, 0, 5, 16, 104, 172]
abbrev dktX3_letterOf_0 : List UInt8 := dkwX3_letterOf_0 ++ []
theorem dksX3_letterOf_0 : cX3_letterOf.data.toList.drop 0 = dktX3_letterOf_0 := by decide +kernel
theorem dX3_letterOf_0 : decode cX3_letterOf 0 = .ok (.iload_n 0, 1) := dk_26 (dk_at dksX3_letterOf_0 0 rfl rfl)
theorem dX3_letterOf_1 : decode cX3_letterOf 1 = .ok (.ifCond .ne 8, 3) := dk_154 0 8 (dk_at dksX3_letterOf_0 1 rfl rfl)
theorem dX3_letterOf_4 : decode cX3_letterOf 4 = .ok (.bipush 100, 2) := dk_16 100 (dk_at dksX3_letterOf_0 4 rfl rfl)
theorem dX3_letterOf_6 : decode cX3_letterOf 6 = .ok (.goto 15, 3) := dk_167 0 15 (dk_at dksX3_letterOf_0 6 rfl rfl)
theorem dX3_letterOf_9 : decode cX3_letterOf 9 = .ok (.iload_n 0, 1) := dk_26 (dk_at dksX3_letterOf_0 9 rfl rfl)
theorem dX3_letterOf_10 : decode cX3_letterOf 10 = .ok (.iconst 1, 1) := dk_4 (dk_at dksX3_letterOf_0 10 rfl rfl)
theorem dX3_letterOf_11 : decode cX3_letterOf 11 = .ok (.if_icmp .ne 8, 3) := dk_160 0 8 (dk_at dksX3_letterOf_0 11 rfl rfl)
theorem dX3_letterOf_14 : decode cX3_letterOf 14 = .ok (.bipush 115, 2) := dk_16 115 (dk_at dksX3_letterOf_0 14 rfl rfl)
theorem dX3_letterOf_16 : decode cX3_letterOf 16 = .ok (.goto 5, 3) := dk_167 0 5 (dk_at dksX3_letterOf_0 16 rfl rfl)
theorem dX3_letterOf_19 : decode cX3_letterOf 19 = .ok (.bipush 104, 2) := dk_16 104 (dk_at dksX3_letterOf_0 19 rfl rfl)
theorem dX3_letterOf_21 : decode cX3_letterOf 21 = .ok (.ireturn, 1) := dk_172 (dk_at dksX3_letterOf_0 21 rfl rfl)
def dkwX3_strengthOf_0 : List UInt8 := [42, 27, 182, 0, 166, 153, 0, 7, 3, 167, 0, 9, 42, 27, 5, 182, 0, 101, 172]
abbrev dktX3_strengthOf_0 : List UInt8 := dkwX3_strengthOf_0 ++ []
theorem dksX3_strengthOf_0 : cX3_strengthOf.data.toList.drop 0 = dktX3_strengthOf_0 := by decide +kernel
theorem dX3_strengthOf_0 : decode cX3_strengthOf 0 = .ok (.aload_n 0, 1) := dk_42 (dk_at dksX3_strengthOf_0 0 rfl rfl)
theorem dX3_strengthOf_1 : decode cX3_strengthOf 1 = .ok (.iload_n 1, 1) := dk_27 (dk_at dksX3_strengthOf_0 1 rfl rfl)
theorem dX3_strengthOf_2 : decode cX3_strengthOf 2 = .ok (.invokevirtual 166, 3) := dk_182 0 166 (dk_at dksX3_strengthOf_0 2 rfl rfl)
theorem dX3_strengthOf_5 : decode cX3_strengthOf 5 = .ok (.ifCond .eq 7, 3) := dk_153 0 7 (dk_at dksX3_strengthOf_0 5 rfl rfl)
theorem dX3_strengthOf_8 : decode cX3_strengthOf 8 = .ok (.iconst 0, 1) := dk_3 (dk_at dksX3_strengthOf_0 8 rfl rfl)
theorem dX3_strengthOf_9 : decode cX3_strengthOf 9 = .ok (.goto 9, 3) := dk_167 0 9 (dk_at dksX3_strengthOf_0 9 rfl rfl)
theorem dX3_strengthOf_12 : decode cX3_strengthOf 12 = .ok (.aload_n 0, 1) := dk_42 (dk_at dksX3_strengthOf_0 12 rfl rfl)
theorem dX3_strengthOf_13 : decode cX3_strengthOf 13 = .ok (.iload_n 1, 1) := dk_27 (dk_at dksX3_strengthOf_0 13 rfl rfl)
theorem dX3_strengthOf_14 : decode cX3_strengthOf 14 = .ok (.iconst 2, 1) := dk_5 (dk_at dksX3_strengthOf_0 14 rfl rfl)
theorem dX3_strengthOf_15 : decode cX3_strengthOf 15 = .ok (.invokevirtual 101, 3) := dk_182 0 101 (dk_at dksX3_strengthOf_0 15 rfl rfl)
theorem dX3_strengthOf_18 : decode cX3_strengthOf 18 = .ok (.ireturn, 1) := dk_172 (dk_at dksX3_strengthOf_0 18 rfl rfl)
def dkwX3_holderOf_1 : List UInt8 := [167, 0, 4, 3, 182, 0, 82, 153, 0, 7, 3, 167, 0, 9, 42, 27, 3, 182, 0, 101, 172]
abbrev dktX3_holderOf_1 : List UInt8 := dkwX3_holderOf_1 ++ []
def dkwX3_holderOf_0 : List UInt8 := [42, 42, 27, 182, 0, 157, 154, 0, 7, 4, 167, 0, 16, 42, 27, 182, 0, 160, 153, 0, 7, 5]
abbrev dktX3_holderOf_0 : List UInt8 := dkwX3_holderOf_0 ++ dktX3_holderOf_1
theorem dksX3_holderOf_0 : cX3_holderOf.data.toList.drop 0 = dktX3_holderOf_0 := by decide +kernel
theorem dksX3_holderOf_1 : cX3_holderOf.data.toList.drop 22 = dktX3_holderOf_1 := dk_seg dksX3_holderOf_0 22 rfl rfl
theorem dX3_holderOf_0 : decode cX3_holderOf 0 = .ok (.aload_n 0, 1) := dk_42 (dk_at dksX3_holderOf_0 0 rfl rfl)
theorem dX3_holderOf_1 : decode cX3_holderOf 1 = .ok (.aload_n 0, 1) := dk_42 (dk_at dksX3_holderOf_0 1 rfl rfl)
theorem dX3_holderOf_2 : decode cX3_holderOf 2 = .ok (.iload_n 1, 1) := dk_27 (dk_at dksX3_holderOf_0 2 rfl rfl)
theorem dX3_holderOf_3 : decode cX3_holderOf 3 = .ok (.invokevirtual 157, 3) := dk_182 0 157 (dk_at dksX3_holderOf_0 3 rfl rfl)
theorem dX3_holderOf_6 : decode cX3_holderOf 6 = .ok (.ifCond .ne 7, 3) := dk_154 0 7 (dk_at dksX3_holderOf_0 6 rfl rfl)
theorem dX3_holderOf_9 : decode cX3_holderOf 9 = .ok (.iconst 1, 1) := dk_4 (dk_at dksX3_holderOf_0 9 rfl rfl)
theorem dX3_holderOf_10 : decode cX3_holderOf 10 = .ok (.goto 16, 3) := dk_167 0 16 (dk_at dksX3_holderOf_0 10 rfl rfl)
theorem dX3_holderOf_13 : decode cX3_holderOf 13 = .ok (.aload_n 0, 1) := dk_42 (dk_at dksX3_holderOf_0 13 rfl rfl)
theorem dX3_holderOf_14 : decode cX3_holderOf 14 = .ok (.iload_n 1, 1) := dk_27 (dk_at dksX3_holderOf_0 14 rfl rfl)
theorem dX3_holderOf_15 : decode cX3_holderOf 15 = .ok (.invokevirtual 160, 3) := dk_182 0 160 (dk_at dksX3_holderOf_0 15 rfl rfl)
theorem dX3_holderOf_18 : decode cX3_holderOf 18 = .ok (.ifCond .eq 7, 3) := dk_153 0 7 (dk_at dksX3_holderOf_0 18 rfl rfl)
theorem dX3_holderOf_21 : decode cX3_holderOf 21 = .ok (.iconst 2, 1) := dk_5 (dk_at dksX3_holderOf_0 21 rfl rfl)
theorem dX3_holderOf_22 : decode cX3_holderOf 22 = .ok (.goto 4, 3) := dk_167 0 4 (dk_at dksX3_holderOf_1 0 rfl rfl)
theorem dX3_holderOf_25 : decode cX3_holderOf 25 = .ok (.iconst 0, 1) := dk_3 (dk_at dksX3_holderOf_1 3 rfl rfl)
theorem dX3_holderOf_26 : decode cX3_holderOf 26 = .ok (.invokevirtual 82, 3) := dk_182 0 82 (dk_at dksX3_holderOf_1 4 rfl rfl)
theorem dX3_holderOf_29 : decode cX3_holderOf 29 = .ok (.ifCond .eq 7, 3) := dk_153 0 7 (dk_at dksX3_holderOf_1 7 rfl rfl)
theorem dX3_holderOf_32 : decode cX3_holderOf 32 = .ok (.iconst 0, 1) := dk_3 (dk_at dksX3_holderOf_1 10 rfl rfl)
theorem dX3_holderOf_33 : decode cX3_holderOf 33 = .ok (.goto 9, 3) := dk_167 0 9 (dk_at dksX3_holderOf_1 11 rfl rfl)
theorem dX3_holderOf_36 : decode cX3_holderOf 36 = .ok (.aload_n 0, 1) := dk_42 (dk_at dksX3_holderOf_1 14 rfl rfl)
theorem dX3_holderOf_37 : decode cX3_holderOf 37 = .ok (.iload_n 1, 1) := dk_27 (dk_at dksX3_holderOf_1 15 rfl rfl)
theorem dX3_holderOf_38 : decode cX3_holderOf 38 = .ok (.iconst 0, 1) := dk_3 (dk_at dksX3_holderOf_1 16 rfl rfl)
theorem dX3_holderOf_39 : decode cX3_holderOf 39 = .ok (.invokevirtual 101, 3) := dk_182 0 101 (dk_at dksX3_holderOf_1 17 rfl rfl)
theorem dX3_holderOf_42 : decode cX3_holderOf 42 = .ok (.ireturn, 1) := dk_172 (dk_at dksX3_holderOf_1 20 rfl rfl)
def dkwX3_isExtinct_0 : List UInt8 := [42, 27, 182, 0, 166, 154, 0, 15, 42, 27, 182, 0, 160, 153, 0, 7, 4, 167, 0, 4, 3, 172]
abbrev dktX3_isExtinct_0 : List UInt8 := dkwX3_isExtinct_0 ++ []
theorem dksX3_isExtinct_0 : cX3_isExtinct.data.toList.drop 0 = dktX3_isExtinct_0 := by decide +kernel
theorem dX3_isExtinct_0 : decode cX3_isExtinct 0 = .ok (.aload_n 0, 1) := dk_42 (dk_at dksX3_isExtinct_0 0 rfl rfl)
theorem dX3_isExtinct_1 : decode cX3_isExtinct 1 = .ok (.iload_n 1, 1) := dk_27 (dk_at dksX3_isExtinct_0 1 rfl rfl)
theorem dX3_isExtinct_2 : decode cX3_isExtinct 2 = .ok (.invokevirtual 166, 3) := dk_182 0 166 (dk_at dksX3_isExtinct_0 2 rfl rfl)
theorem dX3_isExtinct_5 : decode cX3_isExtinct 5 = .ok (.ifCond .ne 15, 3) := dk_154 0 15 (dk_at dksX3_isExtinct_0 5 rfl rfl)
theorem dX3_isExtinct_8 : decode cX3_isExtinct 8 = .ok (.aload_n 0, 1) := dk_42 (dk_at dksX3_isExtinct_0 8 rfl rfl)
theorem dX3_isExtinct_9 : decode cX3_isExtinct 9 = .ok (.iload_n 1, 1) := dk_27 (dk_at dksX3_isExtinct_0 9 rfl rfl)
theorem dX3_isExtinct_10 : decode cX3_isExtinct 10 = .ok (.invokevirtual 160, 3) := dk_182 0 160 (dk_at dksX3_isExtinct_0 10 rfl rfl)
theorem dX3_isExtinct_13 : decode cX3_isExtinct 13 = .ok (.ifCond .eq 7, 3) := dk_153 0 7 (dk_at dksX3_isExtinct_0 13 rfl rfl)
theorem dX3_isExtinct_16 : decode cX3_isExtinct 16 = .ok (.iconst 1, 1) := dk_4 (dk_at dksX3_isExtinct_0 16 rfl rfl)
theorem dX3_isExtinct_17 : decode cX3_isExtinct 17 = .ok (.goto 4, 3) := dk_167 0 4 (dk_at dksX3_isExtinct_0 17 rfl rfl)
theorem dX3_isExtinct_20 : decode cX3_isExtinct 20 = .ok (.iconst 0, 1) := dk_3 (dk_at dksX3_isExtinct_0 20 rfl rfl)
theorem dX3_isExtinct_21 : decode cX3_isExtinct 21 = .ok (.ireturn, 1) := dk_172 (dk_at dksX3_isExtinct_0 21 rfl rfl)
def dkwX3_isEntailed_0 : List UInt8 := [42, 27, 182, 0, 166, 154, 0, 17, 42, 27, 6, 182, 0, 101, 4, 160, 0, 7, 4, 167, 0, 4, 3, 172]
abbrev dktX3_isEntailed_0 : List UInt8 := dkwX3_isEntailed_0 ++ []
theorem dksX3_isEntailed_0 : cX3_isEntailed.data.toList.drop 0 = dktX3_isEntailed_0 := by decide +kernel
theorem dX3_isEntailed_0 : decode cX3_isEntailed 0 = .ok (.aload_n 0, 1) := dk_42 (dk_at dksX3_isEntailed_0 0 rfl rfl)
theorem dX3_isEntailed_1 : decode cX3_isEntailed 1 = .ok (.iload_n 1, 1) := dk_27 (dk_at dksX3_isEntailed_0 1 rfl rfl)
theorem dX3_isEntailed_2 : decode cX3_isEntailed 2 = .ok (.invokevirtual 166, 3) := dk_182 0 166 (dk_at dksX3_isEntailed_0 2 rfl rfl)
theorem dX3_isEntailed_5 : decode cX3_isEntailed 5 = .ok (.ifCond .ne 17, 3) := dk_154 0 17 (dk_at dksX3_isEntailed_0 5 rfl rfl)
theorem dX3_isEntailed_8 : decode cX3_isEntailed 8 = .ok (.aload_n 0, 1) := dk_42 (dk_at dksX3_isEntailed_0 8 rfl rfl)
theorem dX3_isEntailed_9 : decode cX3_isEntailed 9 = .ok (.iload_n 1, 1) := dk_27 (dk_at dksX3_isEntailed_0 9 rfl rfl)
theorem dX3_isEntailed_10 : decode cX3_isEntailed 10 = .ok (.iconst 3, 1) := dk_6 (dk_at dksX3_isEntailed_0 10 rfl rfl)
theorem dX3_isEntailed_11 : decode cX3_isEntailed 11 = .ok (.invokevirtual 101, 3) := dk_182 0 101 (dk_at dksX3_isEntailed_0 11 rfl rfl)
theorem dX3_isEntailed_14 : decode cX3_isEntailed 14 = .ok (.iconst 1, 1) := dk_4 (dk_at dksX3_isEntailed_0 14 rfl rfl)
theorem dX3_isEntailed_15 : decode cX3_isEntailed 15 = .ok (.if_icmp .ne 7, 3) := dk_160 0 7 (dk_at dksX3_isEntailed_0 15 rfl rfl)
theorem dX3_isEntailed_18 : decode cX3_isEntailed 18 = .ok (.iconst 1, 1) := dk_4 (dk_at dksX3_isEntailed_0 18 rfl rfl)
theorem dX3_isEntailed_19 : decode cX3_isEntailed 19 = .ok (.goto 4, 3) := dk_167 0 4 (dk_at dksX3_isEntailed_0 19 rfl rfl)
theorem dX3_isEntailed_22 : decode cX3_isEntailed 22 = .ok (.iconst 0, 1) := dk_3 (dk_at dksX3_isEntailed_0 22 rfl rfl)
theorem dX3_isEntailed_23 : decode cX3_isEntailed 23 = .ok (.ireturn, 1) := dk_172 (dk_at dksX3_isEntailed_0 23 rfl rfl)
def dkwX3_isPractised_0 : List UInt8 := [42, 27, 182, 0, 166, 154, 0, 17, 42, 27, 7, 182, 0, 101, 4, 160, 0, 7, 4, 167, 0, 4, 3, 172]
abbrev dktX3_isPractised_0 : List UInt8 := dkwX3_isPractised_0 ++ []
theorem dksX3_isPractised_0 : cX3_isPractised.data.toList.drop 0 = dktX3_isPractised_0 := by decide +kernel
theorem dX3_isPractised_0 : decode cX3_isPractised 0 = .ok (.aload_n 0, 1) := dk_42 (dk_at dksX3_isPractised_0 0 rfl rfl)
theorem dX3_isPractised_1 : decode cX3_isPractised 1 = .ok (.iload_n 1, 1) := dk_27 (dk_at dksX3_isPractised_0 1 rfl rfl)
theorem dX3_isPractised_2 : decode cX3_isPractised 2 = .ok (.invokevirtual 166, 3) := dk_182 0 166 (dk_at dksX3_isPractised_0 2 rfl rfl)
theorem dX3_isPractised_5 : decode cX3_isPractised 5 = .ok (.ifCond .ne 17, 3) := dk_154 0 17 (dk_at dksX3_isPractised_0 5 rfl rfl)
theorem dX3_isPractised_8 : decode cX3_isPractised 8 = .ok (.aload_n 0, 1) := dk_42 (dk_at dksX3_isPractised_0 8 rfl rfl)
theorem dX3_isPractised_9 : decode cX3_isPractised 9 = .ok (.iload_n 1, 1) := dk_27 (dk_at dksX3_isPractised_0 9 rfl rfl)
theorem dX3_isPractised_10 : decode cX3_isPractised 10 = .ok (.iconst 4, 1) := dk_7 (dk_at dksX3_isPractised_0 10 rfl rfl)
theorem dX3_isPractised_11 : decode cX3_isPractised 11 = .ok (.invokevirtual 101, 3) := dk_182 0 101 (dk_at dksX3_isPractised_0 11 rfl rfl)
theorem dX3_isPractised_14 : decode cX3_isPractised 14 = .ok (.iconst 1, 1) := dk_4 (dk_at dksX3_isPractised_0 14 rfl rfl)
theorem dX3_isPractised_15 : decode cX3_isPractised 15 = .ok (.if_icmp .ne 7, 3) := dk_160 0 7 (dk_at dksX3_isPractised_0 15 rfl rfl)
theorem dX3_isPractised_18 : decode cX3_isPractised 18 = .ok (.iconst 1, 1) := dk_4 (dk_at dksX3_isPractised_0 18 rfl rfl)
theorem dX3_isPractised_19 : decode cX3_isPractised 19 = .ok (.goto 4, 3) := dk_167 0 4 (dk_at dksX3_isPractised_0 19 rfl rfl)
theorem dX3_isPractised_22 : decode cX3_isPractised 22 = .ok (.iconst 0, 1) := dk_3 (dk_at dksX3_isPractised_0 22 rfl rfl)
theorem dX3_isPractised_23 : decode cX3_isPractised 23 = .ok (.ireturn, 1) := dk_172 (dk_at dksX3_isPractised_0 23 rfl rfl)
def dkwX3_habitOf_2 : List UInt8 := [172, 42, 27, 29, 182, 0, 111, 172]
abbrev dktX3_habitOf_2 : List UInt8 := dkwX3_habitOf_2 ++ []
def dkwX3_habitOf_1 : List UInt8 := [167, 0, 17, 42, 27, 29, 182, 0, 111, 156, 0, 7, 6, 167, 0, 4, 3, 182, 0, 82, 153, 0, 5, 3]
abbrev dktX3_habitOf_1 : List UInt8 := dkwX3_habitOf_1 ++ dktX3_habitOf_2
def dkwX3_habitOf_0 : List UInt8 := [28, 184, 0, 153, 62, 42, 42, 27, 182, 0, 66, 154, 0, 7, 4, 167, 0, 25, 29, 156, 0, 7, 5]
abbrev dktX3_habitOf_0 : List UInt8 := dkwX3_habitOf_0 ++ dktX3_habitOf_1
theorem dksX3_habitOf_0 : cX3_habitOf.data.toList.drop 0 = dktX3_habitOf_0 := by decide +kernel
theorem dksX3_habitOf_1 : cX3_habitOf.data.toList.drop 23 = dktX3_habitOf_1 := dk_seg dksX3_habitOf_0 23 rfl rfl
theorem dksX3_habitOf_2 : cX3_habitOf.data.toList.drop 47 = dktX3_habitOf_2 := dk_seg dksX3_habitOf_1 24 rfl rfl
theorem dX3_habitOf_0 : decode cX3_habitOf 0 = .ok (.iload_n 2, 1) := dk_28 (dk_at dksX3_habitOf_0 0 rfl rfl)
theorem dX3_habitOf_1 : decode cX3_habitOf 1 = .ok (.invokestatic 153, 3) := dk_184 0 153 (dk_at dksX3_habitOf_0 1 rfl rfl)
theorem dX3_habitOf_4 : decode cX3_habitOf 4 = .ok (.istore_n 3, 1) := dk_62 (dk_at dksX3_habitOf_0 4 rfl rfl)
theorem dX3_habitOf_5 : decode cX3_habitOf 5 = .ok (.aload_n 0, 1) := dk_42 (dk_at dksX3_habitOf_0 5 rfl rfl)
theorem dX3_habitOf_6 : decode cX3_habitOf 6 = .ok (.aload_n 0, 1) := dk_42 (dk_at dksX3_habitOf_0 6 rfl rfl)
theorem dX3_habitOf_7 : decode cX3_habitOf 7 = .ok (.iload_n 1, 1) := dk_27 (dk_at dksX3_habitOf_0 7 rfl rfl)
theorem dX3_habitOf_8 : decode cX3_habitOf 8 = .ok (.invokevirtual 66, 3) := dk_182 0 66 (dk_at dksX3_habitOf_0 8 rfl rfl)
theorem dX3_habitOf_11 : decode cX3_habitOf 11 = .ok (.ifCond .ne 7, 3) := dk_154 0 7 (dk_at dksX3_habitOf_0 11 rfl rfl)
theorem dX3_habitOf_14 : decode cX3_habitOf 14 = .ok (.iconst 1, 1) := dk_4 (dk_at dksX3_habitOf_0 14 rfl rfl)
theorem dX3_habitOf_15 : decode cX3_habitOf 15 = .ok (.goto 25, 3) := dk_167 0 25 (dk_at dksX3_habitOf_0 15 rfl rfl)
theorem dX3_habitOf_18 : decode cX3_habitOf 18 = .ok (.iload_n 3, 1) := dk_29 (dk_at dksX3_habitOf_0 18 rfl rfl)
theorem dX3_habitOf_19 : decode cX3_habitOf 19 = .ok (.ifCond .ge 7, 3) := dk_156 0 7 (dk_at dksX3_habitOf_0 19 rfl rfl)
theorem dX3_habitOf_22 : decode cX3_habitOf 22 = .ok (.iconst 2, 1) := dk_5 (dk_at dksX3_habitOf_0 22 rfl rfl)
theorem dX3_habitOf_23 : decode cX3_habitOf 23 = .ok (.goto 17, 3) := dk_167 0 17 (dk_at dksX3_habitOf_1 0 rfl rfl)
theorem dX3_habitOf_26 : decode cX3_habitOf 26 = .ok (.aload_n 0, 1) := dk_42 (dk_at dksX3_habitOf_1 3 rfl rfl)
theorem dX3_habitOf_27 : decode cX3_habitOf 27 = .ok (.iload_n 1, 1) := dk_27 (dk_at dksX3_habitOf_1 4 rfl rfl)
theorem dX3_habitOf_28 : decode cX3_habitOf 28 = .ok (.iload_n 3, 1) := dk_29 (dk_at dksX3_habitOf_1 5 rfl rfl)
theorem dX3_habitOf_29 : decode cX3_habitOf 29 = .ok (.invokevirtual 111, 3) := dk_182 0 111 (dk_at dksX3_habitOf_1 6 rfl rfl)
theorem dX3_habitOf_32 : decode cX3_habitOf 32 = .ok (.ifCond .ge 7, 3) := dk_156 0 7 (dk_at dksX3_habitOf_1 9 rfl rfl)
theorem dX3_habitOf_35 : decode cX3_habitOf 35 = .ok (.iconst 3, 1) := dk_6 (dk_at dksX3_habitOf_1 12 rfl rfl)
theorem dX3_habitOf_36 : decode cX3_habitOf 36 = .ok (.goto 4, 3) := dk_167 0 4 (dk_at dksX3_habitOf_1 13 rfl rfl)
theorem dX3_habitOf_39 : decode cX3_habitOf 39 = .ok (.iconst 0, 1) := dk_3 (dk_at dksX3_habitOf_1 16 rfl rfl)
theorem dX3_habitOf_40 : decode cX3_habitOf 40 = .ok (.invokevirtual 82, 3) := dk_182 0 82 (dk_at dksX3_habitOf_1 17 rfl rfl)
theorem dX3_habitOf_43 : decode cX3_habitOf 43 = .ok (.ifCond .eq 5, 3) := dk_153 0 5 (dk_at dksX3_habitOf_1 20 rfl rfl)
theorem dX3_habitOf_46 : decode cX3_habitOf 46 = .ok (.iconst 0, 1) := dk_3 (dk_at dksX3_habitOf_1 23 rfl rfl)
theorem dX3_habitOf_47 : decode cX3_habitOf 47 = .ok (.ireturn, 1) := dk_172 (dk_at dksX3_habitOf_2 0 rfl rfl)
theorem dX3_habitOf_48 : decode cX3_habitOf 48 = .ok (.aload_n 0, 1) := dk_42 (dk_at dksX3_habitOf_2 1 rfl rfl)
theorem dX3_habitOf_49 : decode cX3_habitOf 49 = .ok (.iload_n 1, 1) := dk_27 (dk_at dksX3_habitOf_2 2 rfl rfl)
theorem dX3_habitOf_50 : decode cX3_habitOf 50 = .ok (.iload_n 3, 1) := dk_29 (dk_at dksX3_habitOf_2 3 rfl rfl)
theorem dX3_habitOf_51 : decode cX3_habitOf 51 = .ok (.invokevirtual 111, 3) := dk_182 0 111 (dk_at dksX3_habitOf_2 4 rfl rfl)
theorem dX3_habitOf_54 : decode cX3_habitOf 54 = .ok (.ireturn, 1) := dk_172 (dk_at dksX3_habitOf_2 7 rfl rfl)
def dkwX3_habitStrength_0 : List UInt8 := [42, 27, 182, 0, 128, 153, 0, 7, 3, 167, 0, 8, 42, 27, 182, 0, 173, 172]
abbrev dktX3_habitStrength_0 : List UInt8 := dkwX3_habitStrength_0 ++ []
theorem dksX3_habitStrength_0 : cX3_habitStrength.data.toList.drop 0 = dktX3_habitStrength_0 := by decide +kernel
theorem dX3_habitStrength_0 : decode cX3_habitStrength 0 = .ok (.aload_n 0, 1) := dk_42 (dk_at dksX3_habitStrength_0 0 rfl rfl)
theorem dX3_habitStrength_1 : decode cX3_habitStrength 1 = .ok (.iload_n 1, 1) := dk_27 (dk_at dksX3_habitStrength_0 1 rfl rfl)
theorem dX3_habitStrength_2 : decode cX3_habitStrength 2 = .ok (.invokevirtual 128, 3) := dk_182 0 128 (dk_at dksX3_habitStrength_0 2 rfl rfl)
theorem dX3_habitStrength_5 : decode cX3_habitStrength 5 = .ok (.ifCond .eq 7, 3) := dk_153 0 7 (dk_at dksX3_habitStrength_0 5 rfl rfl)
theorem dX3_habitStrength_8 : decode cX3_habitStrength 8 = .ok (.iconst 0, 1) := dk_3 (dk_at dksX3_habitStrength_0 8 rfl rfl)
theorem dX3_habitStrength_9 : decode cX3_habitStrength 9 = .ok (.goto 8, 3) := dk_167 0 8 (dk_at dksX3_habitStrength_0 9 rfl rfl)
theorem dX3_habitStrength_12 : decode cX3_habitStrength 12 = .ok (.aload_n 0, 1) := dk_42 (dk_at dksX3_habitStrength_0 12 rfl rfl)
theorem dX3_habitStrength_13 : decode cX3_habitStrength 13 = .ok (.iload_n 1, 1) := dk_27 (dk_at dksX3_habitStrength_0 13 rfl rfl)
theorem dX3_habitStrength_14 : decode cX3_habitStrength 14 = .ok (.invokevirtual 173, 3) := dk_182 0 173 (dk_at dksX3_habitStrength_0 14 rfl rfl)
theorem dX3_habitStrength_17 : decode cX3_habitStrength 17 = .ok (.ireturn, 1) := dk_172 (dk_at dksX3_habitStrength_0 17 rfl rfl)
def dkwX3_sumOf_1 : List UInt8 := [160, 0, 12, 42, 29, 5, 182, 0, 101, 167, 0, 4, 3, 96, 61, 132, 3, 1, 167, 255, 220, 28, 172]
abbrev dktX3_sumOf_1 : List UInt8 := dkwX3_sumOf_1 ++ []
def dkwX3_sumOf_0 : List UInt8 := [3, 61, 3, 62, 29, 42, 180, 0, 7, 4, 46, 162, 0, 32, 28, 42, 29, 3, 182, 0, 101, 27]
abbrev dktX3_sumOf_0 : List UInt8 := dkwX3_sumOf_0 ++ dktX3_sumOf_1
theorem dksX3_sumOf_0 : cX3_sumOf.data.toList.drop 0 = dktX3_sumOf_0 := by decide +kernel
theorem dksX3_sumOf_1 : cX3_sumOf.data.toList.drop 22 = dktX3_sumOf_1 := dk_seg dksX3_sumOf_0 22 rfl rfl
theorem dX3_sumOf_0 : decode cX3_sumOf 0 = .ok (.iconst 0, 1) := dk_3 (dk_at dksX3_sumOf_0 0 rfl rfl)
theorem dX3_sumOf_1 : decode cX3_sumOf 1 = .ok (.istore_n 2, 1) := dk_61 (dk_at dksX3_sumOf_0 1 rfl rfl)
theorem dX3_sumOf_2 : decode cX3_sumOf 2 = .ok (.iconst 0, 1) := dk_3 (dk_at dksX3_sumOf_0 2 rfl rfl)
theorem dX3_sumOf_3 : decode cX3_sumOf 3 = .ok (.istore_n 3, 1) := dk_62 (dk_at dksX3_sumOf_0 3 rfl rfl)
theorem dX3_sumOf_4 : decode cX3_sumOf 4 = .ok (.iload_n 3, 1) := dk_29 (dk_at dksX3_sumOf_0 4 rfl rfl)
theorem dX3_sumOf_5 : decode cX3_sumOf 5 = .ok (.aload_n 0, 1) := dk_42 (dk_at dksX3_sumOf_0 5 rfl rfl)
theorem dX3_sumOf_6 : decode cX3_sumOf 6 = .ok (.getfield 7, 3) := dk_180 0 7 (dk_at dksX3_sumOf_0 6 rfl rfl)
theorem dX3_sumOf_9 : decode cX3_sumOf 9 = .ok (.iconst 1, 1) := dk_4 (dk_at dksX3_sumOf_0 9 rfl rfl)
theorem dX3_sumOf_10 : decode cX3_sumOf 10 = .ok (.iaload, 1) := dk_46 (dk_at dksX3_sumOf_0 10 rfl rfl)
theorem dX3_sumOf_11 : decode cX3_sumOf 11 = .ok (.if_icmp .ge 32, 3) := dk_162 0 32 (dk_at dksX3_sumOf_0 11 rfl rfl)
theorem dX3_sumOf_14 : decode cX3_sumOf 14 = .ok (.iload_n 2, 1) := dk_28 (dk_at dksX3_sumOf_0 14 rfl rfl)
theorem dX3_sumOf_15 : decode cX3_sumOf 15 = .ok (.aload_n 0, 1) := dk_42 (dk_at dksX3_sumOf_0 15 rfl rfl)
theorem dX3_sumOf_16 : decode cX3_sumOf 16 = .ok (.iload_n 3, 1) := dk_29 (dk_at dksX3_sumOf_0 16 rfl rfl)
theorem dX3_sumOf_17 : decode cX3_sumOf 17 = .ok (.iconst 0, 1) := dk_3 (dk_at dksX3_sumOf_0 17 rfl rfl)
theorem dX3_sumOf_18 : decode cX3_sumOf 18 = .ok (.invokevirtual 101, 3) := dk_182 0 101 (dk_at dksX3_sumOf_0 18 rfl rfl)
theorem dX3_sumOf_21 : decode cX3_sumOf 21 = .ok (.iload_n 1, 1) := dk_27 (dk_at dksX3_sumOf_0 21 rfl rfl)
theorem dX3_sumOf_22 : decode cX3_sumOf 22 = .ok (.if_icmp .ne 12, 3) := dk_160 0 12 (dk_at dksX3_sumOf_1 0 rfl rfl)
theorem dX3_sumOf_25 : decode cX3_sumOf 25 = .ok (.aload_n 0, 1) := dk_42 (dk_at dksX3_sumOf_1 3 rfl rfl)
theorem dX3_sumOf_26 : decode cX3_sumOf 26 = .ok (.iload_n 3, 1) := dk_29 (dk_at dksX3_sumOf_1 4 rfl rfl)
theorem dX3_sumOf_27 : decode cX3_sumOf 27 = .ok (.iconst 2, 1) := dk_5 (dk_at dksX3_sumOf_1 5 rfl rfl)
theorem dX3_sumOf_28 : decode cX3_sumOf 28 = .ok (.invokevirtual 101, 3) := dk_182 0 101 (dk_at dksX3_sumOf_1 6 rfl rfl)
theorem dX3_sumOf_31 : decode cX3_sumOf 31 = .ok (.goto 4, 3) := dk_167 0 4 (dk_at dksX3_sumOf_1 9 rfl rfl)
theorem dX3_sumOf_34 : decode cX3_sumOf 34 = .ok (.iconst 0, 1) := dk_3 (dk_at dksX3_sumOf_1 12 rfl rfl)
theorem dX3_sumOf_35 : decode cX3_sumOf 35 = .ok (.iadd, 1) := dk_96 (dk_at dksX3_sumOf_1 13 rfl rfl)
theorem dX3_sumOf_36 : decode cX3_sumOf 36 = .ok (.istore_n 2, 1) := dk_61 (dk_at dksX3_sumOf_1 14 rfl rfl)
theorem dX3_sumOf_37 : decode cX3_sumOf 37 = .ok (.iinc 3 1, 3) := dk_132 3 1 (dk_at dksX3_sumOf_1 15 rfl rfl)
theorem dX3_sumOf_40 : decode cX3_sumOf 40 = .ok (.goto (-36), 3) := dk_167 255 220 (dk_at dksX3_sumOf_1 18 rfl rfl)
theorem dX3_sumOf_43 : decode cX3_sumOf 43 = .ok (.iload_n 2, 1) := dk_28 (dk_at dksX3_sumOf_1 21 rfl rfl)
theorem dX3_sumOf_44 : decode cX3_sumOf 44 = .ok (.ireturn, 1) := dk_172 (dk_at dksX3_sumOf_1 22 rfl rfl)
def dkwX3_passYears_2 : List UInt8 := [132, 3, 1, 167, 255, 241, 28, 172]
abbrev dktX3_passYears_2 : List UInt8 := dkwX3_passYears_2 ++ []
def dkwX3_passYears_1 : List UInt8 := [42, 42, 180, 0, 7, 182, 0, 74, 3, 61, 3, 62, 29, 27, 162, 0, 16, 28, 42, 182, 0, 176, 96, 61]
abbrev dktX3_passYears_1 : List UInt8 := dkwX3_passYears_1 ++ dktX3_passYears_2
def dkwX3_passYears_0 : List UInt8 := [42, 27, 4, 16, 9, 184, 0, 62, 153, 0, 7, 3, 167, 0, 4, 4, 182, 0, 82, 153, 0, 5, 3, 172]
abbrev dktX3_passYears_0 : List UInt8 := dkwX3_passYears_0 ++ dktX3_passYears_1
theorem dksX3_passYears_0 : cX3_passYears.data.toList.drop 0 = dktX3_passYears_0 := by decide +kernel
theorem dksX3_passYears_1 : cX3_passYears.data.toList.drop 24 = dktX3_passYears_1 := dk_seg dksX3_passYears_0 24 rfl rfl
theorem dksX3_passYears_2 : cX3_passYears.data.toList.drop 48 = dktX3_passYears_2 := dk_seg dksX3_passYears_1 24 rfl rfl
theorem dX3_passYears_0 : decode cX3_passYears 0 = .ok (.aload_n 0, 1) := dk_42 (dk_at dksX3_passYears_0 0 rfl rfl)
theorem dX3_passYears_1 : decode cX3_passYears 1 = .ok (.iload_n 1, 1) := dk_27 (dk_at dksX3_passYears_0 1 rfl rfl)
theorem dX3_passYears_2 : decode cX3_passYears 2 = .ok (.iconst 1, 1) := dk_4 (dk_at dksX3_passYears_0 2 rfl rfl)
theorem dX3_passYears_3 : decode cX3_passYears 3 = .ok (.bipush 9, 2) := dk_16 9 (dk_at dksX3_passYears_0 3 rfl rfl)
theorem dX3_passYears_5 : decode cX3_passYears 5 = .ok (.invokestatic 62, 3) := dk_184 0 62 (dk_at dksX3_passYears_0 5 rfl rfl)
theorem dX3_passYears_8 : decode cX3_passYears 8 = .ok (.ifCond .eq 7, 3) := dk_153 0 7 (dk_at dksX3_passYears_0 8 rfl rfl)
theorem dX3_passYears_11 : decode cX3_passYears 11 = .ok (.iconst 0, 1) := dk_3 (dk_at dksX3_passYears_0 11 rfl rfl)
theorem dX3_passYears_12 : decode cX3_passYears 12 = .ok (.goto 4, 3) := dk_167 0 4 (dk_at dksX3_passYears_0 12 rfl rfl)
theorem dX3_passYears_15 : decode cX3_passYears 15 = .ok (.iconst 1, 1) := dk_4 (dk_at dksX3_passYears_0 15 rfl rfl)
theorem dX3_passYears_16 : decode cX3_passYears 16 = .ok (.invokevirtual 82, 3) := dk_182 0 82 (dk_at dksX3_passYears_0 16 rfl rfl)
theorem dX3_passYears_19 : decode cX3_passYears 19 = .ok (.ifCond .eq 5, 3) := dk_153 0 5 (dk_at dksX3_passYears_0 19 rfl rfl)
theorem dX3_passYears_22 : decode cX3_passYears 22 = .ok (.iconst 0, 1) := dk_3 (dk_at dksX3_passYears_0 22 rfl rfl)
theorem dX3_passYears_23 : decode cX3_passYears 23 = .ok (.ireturn, 1) := dk_172 (dk_at dksX3_passYears_0 23 rfl rfl)
theorem dX3_passYears_24 : decode cX3_passYears 24 = .ok (.aload_n 0, 1) := dk_42 (dk_at dksX3_passYears_1 0 rfl rfl)
theorem dX3_passYears_25 : decode cX3_passYears 25 = .ok (.aload_n 0, 1) := dk_42 (dk_at dksX3_passYears_1 1 rfl rfl)
theorem dX3_passYears_26 : decode cX3_passYears 26 = .ok (.getfield 7, 3) := dk_180 0 7 (dk_at dksX3_passYears_1 2 rfl rfl)
theorem dX3_passYears_29 : decode cX3_passYears 29 = .ok (.invokevirtual 74, 3) := dk_182 0 74 (dk_at dksX3_passYears_1 5 rfl rfl)
theorem dX3_passYears_32 : decode cX3_passYears 32 = .ok (.iconst 0, 1) := dk_3 (dk_at dksX3_passYears_1 8 rfl rfl)
theorem dX3_passYears_33 : decode cX3_passYears 33 = .ok (.istore_n 2, 1) := dk_61 (dk_at dksX3_passYears_1 9 rfl rfl)
theorem dX3_passYears_34 : decode cX3_passYears 34 = .ok (.iconst 0, 1) := dk_3 (dk_at dksX3_passYears_1 10 rfl rfl)
theorem dX3_passYears_35 : decode cX3_passYears 35 = .ok (.istore_n 3, 1) := dk_62 (dk_at dksX3_passYears_1 11 rfl rfl)
theorem dX3_passYears_36 : decode cX3_passYears 36 = .ok (.iload_n 3, 1) := dk_29 (dk_at dksX3_passYears_1 12 rfl rfl)
theorem dX3_passYears_37 : decode cX3_passYears 37 = .ok (.iload_n 1, 1) := dk_27 (dk_at dksX3_passYears_1 13 rfl rfl)
theorem dX3_passYears_38 : decode cX3_passYears 38 = .ok (.if_icmp .ge 16, 3) := dk_162 0 16 (dk_at dksX3_passYears_1 14 rfl rfl)
theorem dX3_passYears_41 : decode cX3_passYears 41 = .ok (.iload_n 2, 1) := dk_28 (dk_at dksX3_passYears_1 17 rfl rfl)
theorem dX3_passYears_42 : decode cX3_passYears 42 = .ok (.aload_n 0, 1) := dk_42 (dk_at dksX3_passYears_1 18 rfl rfl)
theorem dX3_passYears_43 : decode cX3_passYears 43 = .ok (.invokevirtual 176, 3) := dk_182 0 176 (dk_at dksX3_passYears_1 19 rfl rfl)
theorem dX3_passYears_46 : decode cX3_passYears 46 = .ok (.iadd, 1) := dk_96 (dk_at dksX3_passYears_1 22 rfl rfl)
theorem dX3_passYears_47 : decode cX3_passYears 47 = .ok (.istore_n 2, 1) := dk_61 (dk_at dksX3_passYears_1 23 rfl rfl)
theorem dX3_passYears_48 : decode cX3_passYears 48 = .ok (.iinc 3 1, 3) := dk_132 3 1 (dk_at dksX3_passYears_2 0 rfl rfl)
theorem dX3_passYears_51 : decode cX3_passYears 51 = .ok (.goto (-15), 3) := dk_167 255 241 (dk_at dksX3_passYears_2 3 rfl rfl)
theorem dX3_passYears_54 : decode cX3_passYears 54 = .ok (.iload_n 2, 1) := dk_28 (dk_at dksX3_passYears_2 6 rfl rfl)
theorem dX3_passYears_55 : decode cX3_passYears 55 = .ok (.ireturn, 1) := dk_172 (dk_at dksX3_passYears_2 7 rfl rfl)
def dkwX3_yearGoes_2 : List UInt8 := [28, 7, 3, 182, 0, 114, 132, 2, 1, 167, 255, 203, 42, 180, 0, 7, 5, 92, 46, 4, 96, 79, 27, 172]
abbrev dktX3_yearGoes_2 : List UInt8 := dkwX3_yearGoes_2 ++ []
def dkwX3_yearGoes_1 : List UInt8 := [7, 182, 0, 101, 154, 0, 19, 27, 42, 28, 182, 0, 163, 153, 0, 7, 4, 167, 0, 4, 3, 96, 60, 42]
abbrev dktX3_yearGoes_1 : List UInt8 := dkwX3_yearGoes_1 ++ dktX3_yearGoes_2
def dkwX3_yearGoes_0 : List UInt8 := [3, 60, 3, 61, 28, 42, 180, 0, 7, 4, 46, 162, 0, 49, 42, 28, 182, 0, 160, 154, 0, 28, 42, 28]
abbrev dktX3_yearGoes_0 : List UInt8 := dkwX3_yearGoes_0 ++ dktX3_yearGoes_1
theorem dksX3_yearGoes_0 : cX3_yearGoes.data.toList.drop 0 = dktX3_yearGoes_0 := by decide +kernel
theorem dksX3_yearGoes_1 : cX3_yearGoes.data.toList.drop 24 = dktX3_yearGoes_1 := dk_seg dksX3_yearGoes_0 24 rfl rfl
theorem dksX3_yearGoes_2 : cX3_yearGoes.data.toList.drop 48 = dktX3_yearGoes_2 := dk_seg dksX3_yearGoes_1 24 rfl rfl
theorem dX3_yearGoes_0 : decode cX3_yearGoes 0 = .ok (.iconst 0, 1) := dk_3 (dk_at dksX3_yearGoes_0 0 rfl rfl)
theorem dX3_yearGoes_1 : decode cX3_yearGoes 1 = .ok (.istore_n 1, 1) := dk_60 (dk_at dksX3_yearGoes_0 1 rfl rfl)
theorem dX3_yearGoes_2 : decode cX3_yearGoes 2 = .ok (.iconst 0, 1) := dk_3 (dk_at dksX3_yearGoes_0 2 rfl rfl)
theorem dX3_yearGoes_3 : decode cX3_yearGoes 3 = .ok (.istore_n 2, 1) := dk_61 (dk_at dksX3_yearGoes_0 3 rfl rfl)
theorem dX3_yearGoes_4 : decode cX3_yearGoes 4 = .ok (.iload_n 2, 1) := dk_28 (dk_at dksX3_yearGoes_0 4 rfl rfl)
theorem dX3_yearGoes_5 : decode cX3_yearGoes 5 = .ok (.aload_n 0, 1) := dk_42 (dk_at dksX3_yearGoes_0 5 rfl rfl)
theorem dX3_yearGoes_6 : decode cX3_yearGoes 6 = .ok (.getfield 7, 3) := dk_180 0 7 (dk_at dksX3_yearGoes_0 6 rfl rfl)
theorem dX3_yearGoes_9 : decode cX3_yearGoes 9 = .ok (.iconst 1, 1) := dk_4 (dk_at dksX3_yearGoes_0 9 rfl rfl)
theorem dX3_yearGoes_10 : decode cX3_yearGoes 10 = .ok (.iaload, 1) := dk_46 (dk_at dksX3_yearGoes_0 10 rfl rfl)
theorem dX3_yearGoes_11 : decode cX3_yearGoes 11 = .ok (.if_icmp .ge 49, 3) := dk_162 0 49 (dk_at dksX3_yearGoes_0 11 rfl rfl)
theorem dX3_yearGoes_14 : decode cX3_yearGoes 14 = .ok (.aload_n 0, 1) := dk_42 (dk_at dksX3_yearGoes_0 14 rfl rfl)
theorem dX3_yearGoes_15 : decode cX3_yearGoes 15 = .ok (.iload_n 2, 1) := dk_28 (dk_at dksX3_yearGoes_0 15 rfl rfl)
theorem dX3_yearGoes_16 : decode cX3_yearGoes 16 = .ok (.invokevirtual 160, 3) := dk_182 0 160 (dk_at dksX3_yearGoes_0 16 rfl rfl)
theorem dX3_yearGoes_19 : decode cX3_yearGoes 19 = .ok (.ifCond .ne 28, 3) := dk_154 0 28 (dk_at dksX3_yearGoes_0 19 rfl rfl)
theorem dX3_yearGoes_22 : decode cX3_yearGoes 22 = .ok (.aload_n 0, 1) := dk_42 (dk_at dksX3_yearGoes_0 22 rfl rfl)
theorem dX3_yearGoes_23 : decode cX3_yearGoes 23 = .ok (.iload_n 2, 1) := dk_28 (dk_at dksX3_yearGoes_0 23 rfl rfl)
theorem dX3_yearGoes_24 : decode cX3_yearGoes 24 = .ok (.iconst 4, 1) := dk_7 (dk_at dksX3_yearGoes_1 0 rfl rfl)
theorem dX3_yearGoes_25 : decode cX3_yearGoes 25 = .ok (.invokevirtual 101, 3) := dk_182 0 101 (dk_at dksX3_yearGoes_1 1 rfl rfl)
theorem dX3_yearGoes_28 : decode cX3_yearGoes 28 = .ok (.ifCond .ne 19, 3) := dk_154 0 19 (dk_at dksX3_yearGoes_1 4 rfl rfl)
theorem dX3_yearGoes_31 : decode cX3_yearGoes 31 = .ok (.iload_n 1, 1) := dk_27 (dk_at dksX3_yearGoes_1 7 rfl rfl)
theorem dX3_yearGoes_32 : decode cX3_yearGoes 32 = .ok (.aload_n 0, 1) := dk_42 (dk_at dksX3_yearGoes_1 8 rfl rfl)
theorem dX3_yearGoes_33 : decode cX3_yearGoes 33 = .ok (.iload_n 2, 1) := dk_28 (dk_at dksX3_yearGoes_1 9 rfl rfl)
theorem dX3_yearGoes_34 : decode cX3_yearGoes 34 = .ok (.invokevirtual 163, 3) := dk_182 0 163 (dk_at dksX3_yearGoes_1 10 rfl rfl)
theorem dX3_yearGoes_37 : decode cX3_yearGoes 37 = .ok (.ifCond .eq 7, 3) := dk_153 0 7 (dk_at dksX3_yearGoes_1 13 rfl rfl)
theorem dX3_yearGoes_40 : decode cX3_yearGoes 40 = .ok (.iconst 1, 1) := dk_4 (dk_at dksX3_yearGoes_1 16 rfl rfl)
theorem dX3_yearGoes_41 : decode cX3_yearGoes 41 = .ok (.goto 4, 3) := dk_167 0 4 (dk_at dksX3_yearGoes_1 17 rfl rfl)
theorem dX3_yearGoes_44 : decode cX3_yearGoes 44 = .ok (.iconst 0, 1) := dk_3 (dk_at dksX3_yearGoes_1 20 rfl rfl)
theorem dX3_yearGoes_45 : decode cX3_yearGoes 45 = .ok (.iadd, 1) := dk_96 (dk_at dksX3_yearGoes_1 21 rfl rfl)
theorem dX3_yearGoes_46 : decode cX3_yearGoes 46 = .ok (.istore_n 1, 1) := dk_60 (dk_at dksX3_yearGoes_1 22 rfl rfl)
theorem dX3_yearGoes_47 : decode cX3_yearGoes 47 = .ok (.aload_n 0, 1) := dk_42 (dk_at dksX3_yearGoes_1 23 rfl rfl)
theorem dX3_yearGoes_48 : decode cX3_yearGoes 48 = .ok (.iload_n 2, 1) := dk_28 (dk_at dksX3_yearGoes_2 0 rfl rfl)
theorem dX3_yearGoes_49 : decode cX3_yearGoes 49 = .ok (.iconst 4, 1) := dk_7 (dk_at dksX3_yearGoes_2 1 rfl rfl)
theorem dX3_yearGoes_50 : decode cX3_yearGoes 50 = .ok (.iconst 0, 1) := dk_3 (dk_at dksX3_yearGoes_2 2 rfl rfl)
theorem dX3_yearGoes_51 : decode cX3_yearGoes 51 = .ok (.invokevirtual 114, 3) := dk_182 0 114 (dk_at dksX3_yearGoes_2 3 rfl rfl)
theorem dX3_yearGoes_54 : decode cX3_yearGoes 54 = .ok (.iinc 2 1, 3) := dk_132 2 1 (dk_at dksX3_yearGoes_2 6 rfl rfl)
theorem dX3_yearGoes_57 : decode cX3_yearGoes 57 = .ok (.goto (-53), 3) := dk_167 255 203 (dk_at dksX3_yearGoes_2 9 rfl rfl)
theorem dX3_yearGoes_60 : decode cX3_yearGoes 60 = .ok (.aload_n 0, 1) := dk_42 (dk_at dksX3_yearGoes_2 12 rfl rfl)
theorem dX3_yearGoes_61 : decode cX3_yearGoes 61 = .ok (.getfield 7, 3) := dk_180 0 7 (dk_at dksX3_yearGoes_2 13 rfl rfl)
theorem dX3_yearGoes_64 : decode cX3_yearGoes 64 = .ok (.iconst 2, 1) := dk_5 (dk_at dksX3_yearGoes_2 16 rfl rfl)
theorem dX3_yearGoes_65 : decode cX3_yearGoes 65 = .ok (.dup2, 1) := dk_92 (dk_at dksX3_yearGoes_2 17 rfl rfl)
theorem dX3_yearGoes_66 : decode cX3_yearGoes 66 = .ok (.iaload, 1) := dk_46 (dk_at dksX3_yearGoes_2 18 rfl rfl)
theorem dX3_yearGoes_67 : decode cX3_yearGoes 67 = .ok (.iconst 1, 1) := dk_4 (dk_at dksX3_yearGoes_2 19 rfl rfl)
theorem dX3_yearGoes_68 : decode cX3_yearGoes 68 = .ok (.iadd, 1) := dk_96 (dk_at dksX3_yearGoes_2 20 rfl rfl)
theorem dX3_yearGoes_69 : decode cX3_yearGoes 69 = .ok (.iastore, 1) := dk_79 (dk_at dksX3_yearGoes_2 21 rfl rfl)
theorem dX3_yearGoes_70 : decode cX3_yearGoes 70 = .ok (.iload_n 1, 1) := dk_27 (dk_at dksX3_yearGoes_2 22 rfl rfl)
theorem dX3_yearGoes_71 : decode cX3_yearGoes 71 = .ok (.ireturn, 1) := dk_172 (dk_at dksX3_yearGoes_2 23 rfl rfl)
def dkwX3_year_0 : List UInt8 := [42, 3, 181, 0, 36, 42, 180, 0, 7, 5, 46, 172]
abbrev dktX3_year_0 : List UInt8 := dkwX3_year_0 ++ []
theorem dksX3_year_0 : cX3_year.data.toList.drop 0 = dktX3_year_0 := by decide +kernel
theorem dX3_year_0 : decode cX3_year 0 = .ok (.aload_n 0, 1) := dk_42 (dk_at dksX3_year_0 0 rfl rfl)
theorem dX3_year_1 : decode cX3_year 1 = .ok (.iconst 0, 1) := dk_3 (dk_at dksX3_year_0 1 rfl rfl)
theorem dX3_year_2 : decode cX3_year 2 = .ok (.putfield 36, 3) := dk_181 0 36 (dk_at dksX3_year_0 2 rfl rfl)
theorem dX3_year_5 : decode cX3_year 5 = .ok (.aload_n 0, 1) := dk_42 (dk_at dksX3_year_0 5 rfl rfl)
theorem dX3_year_6 : decode cX3_year 6 = .ok (.getfield 7, 3) := dk_180 0 7 (dk_at dksX3_year_0 6 rfl rfl)
theorem dX3_year_9 : decode cX3_year 9 = .ok (.iconst 2, 1) := dk_5 (dk_at dksX3_year_0 9 rfl rfl)
theorem dX3_year_10 : decode cX3_year 10 = .ok (.iaload, 1) := dk_46 (dk_at dksX3_year_0 10 rfl rfl)
theorem dX3_year_11 : decode cX3_year 11 = .ok (.ireturn, 1) := dk_172 (dk_at dksX3_year_0 11 rfl rfl)
def dkwX3_yearsLeft_2 : List UInt8 := [182, 0, 101, 96, 172]
abbrev dktX3_yearsLeft_2 : List UInt8 := dkwX3_yearsLeft_2 ++ []
def dkwX3_yearsLeft_1 : List UInt8 := [167, 0, 4, 3, 182, 0, 82, 153, 0, 7, 3, 167, 0, 16, 42, 27, 5, 182, 0, 101, 42, 27, 7]
abbrev dktX3_yearsLeft_1 : List UInt8 := dkwX3_yearsLeft_1 ++ dktX3_yearsLeft_2
def dkwX3_yearsLeft_0 : List UInt8 := [42, 42, 27, 182, 0, 157, 154, 0, 7, 4, 167, 0, 16, 42, 27, 182, 0, 160, 153, 0, 7, 5]
abbrev dktX3_yearsLeft_0 : List UInt8 := dkwX3_yearsLeft_0 ++ dktX3_yearsLeft_1
theorem dksX3_yearsLeft_0 : cX3_yearsLeft.data.toList.drop 0 = dktX3_yearsLeft_0 := by decide +kernel
theorem dksX3_yearsLeft_1 : cX3_yearsLeft.data.toList.drop 22 = dktX3_yearsLeft_1 := dk_seg dksX3_yearsLeft_0 22 rfl rfl
theorem dksX3_yearsLeft_2 : cX3_yearsLeft.data.toList.drop 45 = dktX3_yearsLeft_2 := dk_seg dksX3_yearsLeft_1 23 rfl rfl
theorem dX3_yearsLeft_0 : decode cX3_yearsLeft 0 = .ok (.aload_n 0, 1) := dk_42 (dk_at dksX3_yearsLeft_0 0 rfl rfl)
theorem dX3_yearsLeft_1 : decode cX3_yearsLeft 1 = .ok (.aload_n 0, 1) := dk_42 (dk_at dksX3_yearsLeft_0 1 rfl rfl)
theorem dX3_yearsLeft_2 : decode cX3_yearsLeft 2 = .ok (.iload_n 1, 1) := dk_27 (dk_at dksX3_yearsLeft_0 2 rfl rfl)
theorem dX3_yearsLeft_3 : decode cX3_yearsLeft 3 = .ok (.invokevirtual 157, 3) := dk_182 0 157 (dk_at dksX3_yearsLeft_0 3 rfl rfl)
theorem dX3_yearsLeft_6 : decode cX3_yearsLeft 6 = .ok (.ifCond .ne 7, 3) := dk_154 0 7 (dk_at dksX3_yearsLeft_0 6 rfl rfl)
theorem dX3_yearsLeft_9 : decode cX3_yearsLeft 9 = .ok (.iconst 1, 1) := dk_4 (dk_at dksX3_yearsLeft_0 9 rfl rfl)
theorem dX3_yearsLeft_10 : decode cX3_yearsLeft 10 = .ok (.goto 16, 3) := dk_167 0 16 (dk_at dksX3_yearsLeft_0 10 rfl rfl)
theorem dX3_yearsLeft_13 : decode cX3_yearsLeft 13 = .ok (.aload_n 0, 1) := dk_42 (dk_at dksX3_yearsLeft_0 13 rfl rfl)
theorem dX3_yearsLeft_14 : decode cX3_yearsLeft 14 = .ok (.iload_n 1, 1) := dk_27 (dk_at dksX3_yearsLeft_0 14 rfl rfl)
theorem dX3_yearsLeft_15 : decode cX3_yearsLeft 15 = .ok (.invokevirtual 160, 3) := dk_182 0 160 (dk_at dksX3_yearsLeft_0 15 rfl rfl)
theorem dX3_yearsLeft_18 : decode cX3_yearsLeft 18 = .ok (.ifCond .eq 7, 3) := dk_153 0 7 (dk_at dksX3_yearsLeft_0 18 rfl rfl)
theorem dX3_yearsLeft_21 : decode cX3_yearsLeft 21 = .ok (.iconst 2, 1) := dk_5 (dk_at dksX3_yearsLeft_0 21 rfl rfl)
theorem dX3_yearsLeft_22 : decode cX3_yearsLeft 22 = .ok (.goto 4, 3) := dk_167 0 4 (dk_at dksX3_yearsLeft_1 0 rfl rfl)
theorem dX3_yearsLeft_25 : decode cX3_yearsLeft 25 = .ok (.iconst 0, 1) := dk_3 (dk_at dksX3_yearsLeft_1 3 rfl rfl)
theorem dX3_yearsLeft_26 : decode cX3_yearsLeft 26 = .ok (.invokevirtual 82, 3) := dk_182 0 82 (dk_at dksX3_yearsLeft_1 4 rfl rfl)
theorem dX3_yearsLeft_29 : decode cX3_yearsLeft 29 = .ok (.ifCond .eq 7, 3) := dk_153 0 7 (dk_at dksX3_yearsLeft_1 7 rfl rfl)
theorem dX3_yearsLeft_32 : decode cX3_yearsLeft 32 = .ok (.iconst 0, 1) := dk_3 (dk_at dksX3_yearsLeft_1 10 rfl rfl)
theorem dX3_yearsLeft_33 : decode cX3_yearsLeft 33 = .ok (.goto 16, 3) := dk_167 0 16 (dk_at dksX3_yearsLeft_1 11 rfl rfl)
theorem dX3_yearsLeft_36 : decode cX3_yearsLeft 36 = .ok (.aload_n 0, 1) := dk_42 (dk_at dksX3_yearsLeft_1 14 rfl rfl)
theorem dX3_yearsLeft_37 : decode cX3_yearsLeft 37 = .ok (.iload_n 1, 1) := dk_27 (dk_at dksX3_yearsLeft_1 15 rfl rfl)
theorem dX3_yearsLeft_38 : decode cX3_yearsLeft 38 = .ok (.iconst 2, 1) := dk_5 (dk_at dksX3_yearsLeft_1 16 rfl rfl)
theorem dX3_yearsLeft_39 : decode cX3_yearsLeft 39 = .ok (.invokevirtual 101, 3) := dk_182 0 101 (dk_at dksX3_yearsLeft_1 17 rfl rfl)
theorem dX3_yearsLeft_42 : decode cX3_yearsLeft 42 = .ok (.aload_n 0, 1) := dk_42 (dk_at dksX3_yearsLeft_1 20 rfl rfl)
theorem dX3_yearsLeft_43 : decode cX3_yearsLeft 43 = .ok (.iload_n 1, 1) := dk_27 (dk_at dksX3_yearsLeft_1 21 rfl rfl)
theorem dX3_yearsLeft_44 : decode cX3_yearsLeft 44 = .ok (.iconst 4, 1) := dk_7 (dk_at dksX3_yearsLeft_1 22 rfl rfl)
theorem dX3_yearsLeft_45 : decode cX3_yearsLeft 45 = .ok (.invokevirtual 101, 3) := dk_182 0 101 (dk_at dksX3_yearsLeft_2 0 rfl rfl)
theorem dX3_yearsLeft_48 : decode cX3_yearsLeft 48 = .ok (.iadd, 1) := dk_96 (dk_at dksX3_yearsLeft_2 3 rfl rfl)
theorem dX3_yearsLeft_49 : decode cX3_yearsLeft 49 = .ok (.ireturn, 1) := dk_172 (dk_at dksX3_yearsLeft_2 4 rfl rfl)
def dkwX3_lapsedCount_0 : List UInt8 := [42, 3, 181, 0, 36, 42, 180, 0, 7, 6, 46, 172]
abbrev dktX3_lapsedCount_0 : List UInt8 := dkwX3_lapsedCount_0 ++ []
theorem dksX3_lapsedCount_0 : cX3_lapsedCount.data.toList.drop 0 = dktX3_lapsedCount_0 := by decide +kernel
theorem dX3_lapsedCount_0 : decode cX3_lapsedCount 0 = .ok (.aload_n 0, 1) := dk_42 (dk_at dksX3_lapsedCount_0 0 rfl rfl)
theorem dX3_lapsedCount_1 : decode cX3_lapsedCount 1 = .ok (.iconst 0, 1) := dk_3 (dk_at dksX3_lapsedCount_0 1 rfl rfl)
theorem dX3_lapsedCount_2 : decode cX3_lapsedCount 2 = .ok (.putfield 36, 3) := dk_181 0 36 (dk_at dksX3_lapsedCount_0 2 rfl rfl)
theorem dX3_lapsedCount_5 : decode cX3_lapsedCount 5 = .ok (.aload_n 0, 1) := dk_42 (dk_at dksX3_lapsedCount_0 5 rfl rfl)
theorem dX3_lapsedCount_6 : decode cX3_lapsedCount 6 = .ok (.getfield 7, 3) := dk_180 0 7 (dk_at dksX3_lapsedCount_0 6 rfl rfl)
theorem dX3_lapsedCount_9 : decode cX3_lapsedCount 9 = .ok (.iconst 3, 1) := dk_6 (dk_at dksX3_lapsedCount_0 9 rfl rfl)
theorem dX3_lapsedCount_10 : decode cX3_lapsedCount 10 = .ok (.iaload, 1) := dk_46 (dk_at dksX3_lapsedCount_0 10 rfl rfl)
theorem dX3_lapsedCount_11 : decode cX3_lapsedCount 11 = .ok (.ireturn, 1) := dk_172 (dk_at dksX3_lapsedCount_0 11 rfl rfl)
def dkwX3_mergedCount_0 : List UInt8 := [42, 3, 181, 0, 36, 42, 180, 0, 7, 7, 46, 172]
abbrev dktX3_mergedCount_0 : List UInt8 := dkwX3_mergedCount_0 ++ []
theorem dksX3_mergedCount_0 : cX3_mergedCount.data.toList.drop 0 = dktX3_mergedCount_0 := by decide +kernel
theorem dX3_mergedCount_0 : decode cX3_mergedCount 0 = .ok (.aload_n 0, 1) := dk_42 (dk_at dksX3_mergedCount_0 0 rfl rfl)
theorem dX3_mergedCount_1 : decode cX3_mergedCount 1 = .ok (.iconst 0, 1) := dk_3 (dk_at dksX3_mergedCount_0 1 rfl rfl)
theorem dX3_mergedCount_2 : decode cX3_mergedCount 2 = .ok (.putfield 36, 3) := dk_181 0 36 (dk_at dksX3_mergedCount_0 2 rfl rfl)
theorem dX3_mergedCount_5 : decode cX3_mergedCount 5 = .ok (.aload_n 0, 1) := dk_42 (dk_at dksX3_mergedCount_0 5 rfl rfl)
theorem dX3_mergedCount_6 : decode cX3_mergedCount 6 = .ok (.getfield 7, 3) := dk_180 0 7 (dk_at dksX3_mergedCount_0 6 rfl rfl)
theorem dX3_mergedCount_9 : decode cX3_mergedCount 9 = .ok (.iconst 4, 1) := dk_7 (dk_at dksX3_mergedCount_0 9 rfl rfl)
theorem dX3_mergedCount_10 : decode cX3_mergedCount 10 = .ok (.iaload, 1) := dk_46 (dk_at dksX3_mergedCount_0 10 rfl rfl)
theorem dX3_mergedCount_11 : decode cX3_mergedCount 11 = .ok (.ireturn, 1) := dk_172 (dk_at dksX3_mergedCount_0 11 rfl rfl)
def dkwX3_brokenCount_0 : List UInt8 := [42, 3, 181, 0, 36, 42, 180, 0, 7, 8, 46, 172]
abbrev dktX3_brokenCount_0 : List UInt8 := dkwX3_brokenCount_0 ++ []
theorem dksX3_brokenCount_0 : cX3_brokenCount.data.toList.drop 0 = dktX3_brokenCount_0 := by decide +kernel
theorem dX3_brokenCount_0 : decode cX3_brokenCount 0 = .ok (.aload_n 0, 1) := dk_42 (dk_at dksX3_brokenCount_0 0 rfl rfl)
theorem dX3_brokenCount_1 : decode cX3_brokenCount 1 = .ok (.iconst 0, 1) := dk_3 (dk_at dksX3_brokenCount_0 1 rfl rfl)
theorem dX3_brokenCount_2 : decode cX3_brokenCount 2 = .ok (.putfield 36, 3) := dk_181 0 36 (dk_at dksX3_brokenCount_0 2 rfl rfl)
theorem dX3_brokenCount_5 : decode cX3_brokenCount 5 = .ok (.aload_n 0, 1) := dk_42 (dk_at dksX3_brokenCount_0 5 rfl rfl)
theorem dX3_brokenCount_6 : decode cX3_brokenCount 6 = .ok (.getfield 7, 3) := dk_180 0 7 (dk_at dksX3_brokenCount_0 6 rfl rfl)
theorem dX3_brokenCount_9 : decode cX3_brokenCount 9 = .ok (.iconst 5, 1) := dk_8 (dk_at dksX3_brokenCount_0 9 rfl rfl)
theorem dX3_brokenCount_10 : decode cX3_brokenCount 10 = .ok (.iaload, 1) := dk_46 (dk_at dksX3_brokenCount_0 10 rfl rfl)
theorem dX3_brokenCount_11 : decode cX3_brokenCount 11 = .ok (.ireturn, 1) := dk_172 (dk_at dksX3_brokenCount_0 11 rfl rfl)
def dkwX3_totalStrength_0 : List UInt8 := [42, 3, 181, 0, 36, 42, 182, 0, 179, 172]
abbrev dktX3_totalStrength_0 : List UInt8 := dkwX3_totalStrength_0 ++ []
theorem dksX3_totalStrength_0 : cX3_totalStrength.data.toList.drop 0 = dktX3_totalStrength_0 := by decide +kernel
theorem dX3_totalStrength_0 : decode cX3_totalStrength 0 = .ok (.aload_n 0, 1) := dk_42 (dk_at dksX3_totalStrength_0 0 rfl rfl)
theorem dX3_totalStrength_1 : decode cX3_totalStrength 1 = .ok (.iconst 0, 1) := dk_3 (dk_at dksX3_totalStrength_0 1 rfl rfl)
theorem dX3_totalStrength_2 : decode cX3_totalStrength 2 = .ok (.putfield 36, 3) := dk_181 0 36 (dk_at dksX3_totalStrength_0 2 rfl rfl)
theorem dX3_totalStrength_5 : decode cX3_totalStrength 5 = .ok (.aload_n 0, 1) := dk_42 (dk_at dksX3_totalStrength_0 5 rfl rfl)
theorem dX3_totalStrength_6 : decode cX3_totalStrength 6 = .ok (.invokevirtual 179, 3) := dk_182 0 179 (dk_at dksX3_totalStrength_0 6 rfl rfl)
theorem dX3_totalStrength_9 : decode cX3_totalStrength 9 = .ok (.ireturn, 1) := dk_172 (dk_at dksX3_totalStrength_0 9 rfl rfl)
def dkwX3_total_1 : List UInt8 := [132, 2, 1, 167, 255, 234, 27, 172]
abbrev dktX3_total_1 : List UInt8 := dkwX3_total_1 ++ []
def dkwX3_total_0 : List UInt8 := [3, 60, 3, 61, 28, 42, 180, 0, 7, 4, 46, 162, 0, 18, 27, 42, 28, 5, 182, 0, 101, 96, 60]
abbrev dktX3_total_0 : List UInt8 := dkwX3_total_0 ++ dktX3_total_1
theorem dksX3_total_0 : cX3_total.data.toList.drop 0 = dktX3_total_0 := by decide +kernel
theorem dksX3_total_1 : cX3_total.data.toList.drop 23 = dktX3_total_1 := dk_seg dksX3_total_0 23 rfl rfl
theorem dX3_total_0 : decode cX3_total 0 = .ok (.iconst 0, 1) := dk_3 (dk_at dksX3_total_0 0 rfl rfl)
theorem dX3_total_1 : decode cX3_total 1 = .ok (.istore_n 1, 1) := dk_60 (dk_at dksX3_total_0 1 rfl rfl)
theorem dX3_total_2 : decode cX3_total 2 = .ok (.iconst 0, 1) := dk_3 (dk_at dksX3_total_0 2 rfl rfl)
theorem dX3_total_3 : decode cX3_total 3 = .ok (.istore_n 2, 1) := dk_61 (dk_at dksX3_total_0 3 rfl rfl)
theorem dX3_total_4 : decode cX3_total 4 = .ok (.iload_n 2, 1) := dk_28 (dk_at dksX3_total_0 4 rfl rfl)
theorem dX3_total_5 : decode cX3_total 5 = .ok (.aload_n 0, 1) := dk_42 (dk_at dksX3_total_0 5 rfl rfl)
theorem dX3_total_6 : decode cX3_total 6 = .ok (.getfield 7, 3) := dk_180 0 7 (dk_at dksX3_total_0 6 rfl rfl)
theorem dX3_total_9 : decode cX3_total 9 = .ok (.iconst 1, 1) := dk_4 (dk_at dksX3_total_0 9 rfl rfl)
theorem dX3_total_10 : decode cX3_total 10 = .ok (.iaload, 1) := dk_46 (dk_at dksX3_total_0 10 rfl rfl)
theorem dX3_total_11 : decode cX3_total 11 = .ok (.if_icmp .ge 18, 3) := dk_162 0 18 (dk_at dksX3_total_0 11 rfl rfl)
theorem dX3_total_14 : decode cX3_total 14 = .ok (.iload_n 1, 1) := dk_27 (dk_at dksX3_total_0 14 rfl rfl)
theorem dX3_total_15 : decode cX3_total 15 = .ok (.aload_n 0, 1) := dk_42 (dk_at dksX3_total_0 15 rfl rfl)
theorem dX3_total_16 : decode cX3_total 16 = .ok (.iload_n 2, 1) := dk_28 (dk_at dksX3_total_0 16 rfl rfl)
theorem dX3_total_17 : decode cX3_total 17 = .ok (.iconst 2, 1) := dk_5 (dk_at dksX3_total_0 17 rfl rfl)
theorem dX3_total_18 : decode cX3_total 18 = .ok (.invokevirtual 101, 3) := dk_182 0 101 (dk_at dksX3_total_0 18 rfl rfl)
theorem dX3_total_21 : decode cX3_total 21 = .ok (.iadd, 1) := dk_96 (dk_at dksX3_total_0 21 rfl rfl)
theorem dX3_total_22 : decode cX3_total 22 = .ok (.istore_n 1, 1) := dk_60 (dk_at dksX3_total_0 22 rfl rfl)
theorem dX3_total_23 : decode cX3_total 23 = .ok (.iinc 2 1, 3) := dk_132 2 1 (dk_at dksX3_total_1 0 rfl rfl)
theorem dX3_total_26 : decode cX3_total 26 = .ok (.goto (-22), 3) := dk_167 255 234 (dk_at dksX3_total_1 3 rfl rfl)
theorem dX3_total_29 : decode cX3_total 29 = .ok (.iload_n 1, 1) := dk_27 (dk_at dksX3_total_1 6 rfl rfl)
theorem dX3_total_30 : decode cX3_total 30 = .ok (.ireturn, 1) := dk_172 (dk_at dksX3_total_1 7 rfl rfl)
def dkwX3_totalStrengthByPeople_0 : List UInt8 := [42, 3, 181, 0, 36, 42, 182, 0, 179, 172]
abbrev dktX3_totalStrengthByPeople_0 : List UInt8 := dkwX3_totalStrengthByPeople_0 ++ []
theorem dksX3_totalStrengthByPeople_0 : cX3_totalStrengthByPeople.data.toList.drop 0 = dktX3_totalStrengthByPeople_0 := by decide +kernel
theorem dX3_totalStrengthByPeople_0 : decode cX3_totalStrengthByPeople 0 = .ok (.aload_n 0, 1) := dk_42 (dk_at dksX3_totalStrengthByPeople_0 0 rfl rfl)
theorem dX3_totalStrengthByPeople_1 : decode cX3_totalStrengthByPeople 1 = .ok (.iconst 0, 1) := dk_3 (dk_at dksX3_totalStrengthByPeople_0 1 rfl rfl)
theorem dX3_totalStrengthByPeople_2 : decode cX3_totalStrengthByPeople 2 = .ok (.putfield 36, 3) := dk_181 0 36 (dk_at dksX3_totalStrengthByPeople_0 2 rfl rfl)
theorem dX3_totalStrengthByPeople_5 : decode cX3_totalStrengthByPeople 5 = .ok (.aload_n 0, 1) := dk_42 (dk_at dksX3_totalStrengthByPeople_0 5 rfl rfl)
theorem dX3_totalStrengthByPeople_6 : decode cX3_totalStrengthByPeople 6 = .ok (.invokevirtual 179, 3) := dk_182 0 179 (dk_at dksX3_totalStrengthByPeople_0 6 rfl rfl)
theorem dX3_totalStrengthByPeople_9 : decode cX3_totalStrengthByPeople 9 = .ok (.ireturn, 1) := dk_172 (dk_at dksX3_totalStrengthByPeople_0 9 rfl rfl)
def dkwX3_habitByStrength_4 : List UInt8 := [167, 0, 10, 42, 3, 181, 0, 36, 28, 172, 132, 2, 1, 167, 255, 149, 42, 4, 181, 0, 36, 3, 172]
abbrev dktX3_habitByStrength_4 : List UInt8 := dkwX3_habitByStrength_4 ++ []
def dkwX3_habitByStrength_3 : List UInt8 := [21, 4, 28, 162, 0, 7, 4, 167, 0, 4, 3, 96, 62, 132, 4, 1, 167, 255, 196, 29, 27, 159, 0, 6]
abbrev dktX3_habitByStrength_3 : List UInt8 := dkwX3_habitByStrength_3 ++ dktX3_habitByStrength_4
def dkwX3_habitByStrength_2 : List UInt8 := [28, 5, 182, 0, 101, 163, 0, 25, 42, 21, 4, 5, 182, 0, 101, 42, 28, 5, 182, 0, 101, 160, 0, 13]
abbrev dktX3_habitByStrength_2 : List UInt8 := dkwX3_habitByStrength_2 ++ dktX3_habitByStrength_3
def dkwX3_habitByStrength_1 : List UInt8 := [62, 3, 54, 4, 21, 4, 42, 180, 0, 7, 4, 46, 162, 0, 55, 29, 42, 21, 4, 5, 182, 0, 101, 42]
abbrev dktX3_habitByStrength_1 : List UInt8 := dkwX3_habitByStrength_1 ++ dktX3_habitByStrength_2
def dkwX3_habitByStrength_0 : List UInt8 := [3, 61, 28, 42, 180, 0, 7, 4, 46, 162, 0, 103, 42, 28, 182, 0, 160, 153, 0, 6, 167, 0, 86, 3]
abbrev dktX3_habitByStrength_0 : List UInt8 := dkwX3_habitByStrength_0 ++ dktX3_habitByStrength_1
theorem dksX3_habitByStrength_0 : cX3_habitByStrength.data.toList.drop 0 = dktX3_habitByStrength_0 := by decide +kernel
theorem dksX3_habitByStrength_1 : cX3_habitByStrength.data.toList.drop 24 = dktX3_habitByStrength_1 := dk_seg dksX3_habitByStrength_0 24 rfl rfl
theorem dksX3_habitByStrength_2 : cX3_habitByStrength.data.toList.drop 48 = dktX3_habitByStrength_2 := dk_seg dksX3_habitByStrength_1 24 rfl rfl
theorem dksX3_habitByStrength_3 : cX3_habitByStrength.data.toList.drop 72 = dktX3_habitByStrength_3 := dk_seg dksX3_habitByStrength_2 24 rfl rfl
theorem dksX3_habitByStrength_4 : cX3_habitByStrength.data.toList.drop 96 = dktX3_habitByStrength_4 := dk_seg dksX3_habitByStrength_3 24 rfl rfl
theorem dX3_habitByStrength_0 : decode cX3_habitByStrength 0 = .ok (.iconst 0, 1) := dk_3 (dk_at dksX3_habitByStrength_0 0 rfl rfl)
theorem dX3_habitByStrength_1 : decode cX3_habitByStrength 1 = .ok (.istore_n 2, 1) := dk_61 (dk_at dksX3_habitByStrength_0 1 rfl rfl)
theorem dX3_habitByStrength_2 : decode cX3_habitByStrength 2 = .ok (.iload_n 2, 1) := dk_28 (dk_at dksX3_habitByStrength_0 2 rfl rfl)
theorem dX3_habitByStrength_3 : decode cX3_habitByStrength 3 = .ok (.aload_n 0, 1) := dk_42 (dk_at dksX3_habitByStrength_0 3 rfl rfl)
theorem dX3_habitByStrength_4 : decode cX3_habitByStrength 4 = .ok (.getfield 7, 3) := dk_180 0 7 (dk_at dksX3_habitByStrength_0 4 rfl rfl)
theorem dX3_habitByStrength_7 : decode cX3_habitByStrength 7 = .ok (.iconst 1, 1) := dk_4 (dk_at dksX3_habitByStrength_0 7 rfl rfl)
theorem dX3_habitByStrength_8 : decode cX3_habitByStrength 8 = .ok (.iaload, 1) := dk_46 (dk_at dksX3_habitByStrength_0 8 rfl rfl)
theorem dX3_habitByStrength_9 : decode cX3_habitByStrength 9 = .ok (.if_icmp .ge 103, 3) := dk_162 0 103 (dk_at dksX3_habitByStrength_0 9 rfl rfl)
theorem dX3_habitByStrength_12 : decode cX3_habitByStrength 12 = .ok (.aload_n 0, 1) := dk_42 (dk_at dksX3_habitByStrength_0 12 rfl rfl)
theorem dX3_habitByStrength_13 : decode cX3_habitByStrength 13 = .ok (.iload_n 2, 1) := dk_28 (dk_at dksX3_habitByStrength_0 13 rfl rfl)
theorem dX3_habitByStrength_14 : decode cX3_habitByStrength 14 = .ok (.invokevirtual 160, 3) := dk_182 0 160 (dk_at dksX3_habitByStrength_0 14 rfl rfl)
theorem dX3_habitByStrength_17 : decode cX3_habitByStrength 17 = .ok (.ifCond .eq 6, 3) := dk_153 0 6 (dk_at dksX3_habitByStrength_0 17 rfl rfl)
theorem dX3_habitByStrength_20 : decode cX3_habitByStrength 20 = .ok (.goto 86, 3) := dk_167 0 86 (dk_at dksX3_habitByStrength_0 20 rfl rfl)
theorem dX3_habitByStrength_23 : decode cX3_habitByStrength 23 = .ok (.iconst 0, 1) := dk_3 (dk_at dksX3_habitByStrength_0 23 rfl rfl)
theorem dX3_habitByStrength_24 : decode cX3_habitByStrength 24 = .ok (.istore_n 3, 1) := dk_62 (dk_at dksX3_habitByStrength_1 0 rfl rfl)
theorem dX3_habitByStrength_25 : decode cX3_habitByStrength 25 = .ok (.iconst 0, 1) := dk_3 (dk_at dksX3_habitByStrength_1 1 rfl rfl)
theorem dX3_habitByStrength_26 : decode cX3_habitByStrength 26 = .ok (.istore 4, 2) := dk_54 4 (dk_at dksX3_habitByStrength_1 2 rfl rfl)
theorem dX3_habitByStrength_28 : decode cX3_habitByStrength 28 = .ok (.iload 4, 2) := dk_21 4 (dk_at dksX3_habitByStrength_1 4 rfl rfl)
theorem dX3_habitByStrength_30 : decode cX3_habitByStrength 30 = .ok (.aload_n 0, 1) := dk_42 (dk_at dksX3_habitByStrength_1 6 rfl rfl)
theorem dX3_habitByStrength_31 : decode cX3_habitByStrength 31 = .ok (.getfield 7, 3) := dk_180 0 7 (dk_at dksX3_habitByStrength_1 7 rfl rfl)
theorem dX3_habitByStrength_34 : decode cX3_habitByStrength 34 = .ok (.iconst 1, 1) := dk_4 (dk_at dksX3_habitByStrength_1 10 rfl rfl)
theorem dX3_habitByStrength_35 : decode cX3_habitByStrength 35 = .ok (.iaload, 1) := dk_46 (dk_at dksX3_habitByStrength_1 11 rfl rfl)
theorem dX3_habitByStrength_36 : decode cX3_habitByStrength 36 = .ok (.if_icmp .ge 55, 3) := dk_162 0 55 (dk_at dksX3_habitByStrength_1 12 rfl rfl)
theorem dX3_habitByStrength_39 : decode cX3_habitByStrength 39 = .ok (.iload_n 3, 1) := dk_29 (dk_at dksX3_habitByStrength_1 15 rfl rfl)
theorem dX3_habitByStrength_40 : decode cX3_habitByStrength 40 = .ok (.aload_n 0, 1) := dk_42 (dk_at dksX3_habitByStrength_1 16 rfl rfl)
theorem dX3_habitByStrength_41 : decode cX3_habitByStrength 41 = .ok (.iload 4, 2) := dk_21 4 (dk_at dksX3_habitByStrength_1 17 rfl rfl)
theorem dX3_habitByStrength_43 : decode cX3_habitByStrength 43 = .ok (.iconst 2, 1) := dk_5 (dk_at dksX3_habitByStrength_1 19 rfl rfl)
theorem dX3_habitByStrength_44 : decode cX3_habitByStrength 44 = .ok (.invokevirtual 101, 3) := dk_182 0 101 (dk_at dksX3_habitByStrength_1 20 rfl rfl)
theorem dX3_habitByStrength_47 : decode cX3_habitByStrength 47 = .ok (.aload_n 0, 1) := dk_42 (dk_at dksX3_habitByStrength_1 23 rfl rfl)
theorem dX3_habitByStrength_48 : decode cX3_habitByStrength 48 = .ok (.iload_n 2, 1) := dk_28 (dk_at dksX3_habitByStrength_2 0 rfl rfl)
theorem dX3_habitByStrength_49 : decode cX3_habitByStrength 49 = .ok (.iconst 2, 1) := dk_5 (dk_at dksX3_habitByStrength_2 1 rfl rfl)
theorem dX3_habitByStrength_50 : decode cX3_habitByStrength 50 = .ok (.invokevirtual 101, 3) := dk_182 0 101 (dk_at dksX3_habitByStrength_2 2 rfl rfl)
theorem dX3_habitByStrength_53 : decode cX3_habitByStrength 53 = .ok (.if_icmp .gt 25, 3) := dk_163 0 25 (dk_at dksX3_habitByStrength_2 5 rfl rfl)
theorem dX3_habitByStrength_56 : decode cX3_habitByStrength 56 = .ok (.aload_n 0, 1) := dk_42 (dk_at dksX3_habitByStrength_2 8 rfl rfl)
theorem dX3_habitByStrength_57 : decode cX3_habitByStrength 57 = .ok (.iload 4, 2) := dk_21 4 (dk_at dksX3_habitByStrength_2 9 rfl rfl)
theorem dX3_habitByStrength_59 : decode cX3_habitByStrength 59 = .ok (.iconst 2, 1) := dk_5 (dk_at dksX3_habitByStrength_2 11 rfl rfl)
theorem dX3_habitByStrength_60 : decode cX3_habitByStrength 60 = .ok (.invokevirtual 101, 3) := dk_182 0 101 (dk_at dksX3_habitByStrength_2 12 rfl rfl)
theorem dX3_habitByStrength_63 : decode cX3_habitByStrength 63 = .ok (.aload_n 0, 1) := dk_42 (dk_at dksX3_habitByStrength_2 15 rfl rfl)
theorem dX3_habitByStrength_64 : decode cX3_habitByStrength 64 = .ok (.iload_n 2, 1) := dk_28 (dk_at dksX3_habitByStrength_2 16 rfl rfl)
theorem dX3_habitByStrength_65 : decode cX3_habitByStrength 65 = .ok (.iconst 2, 1) := dk_5 (dk_at dksX3_habitByStrength_2 17 rfl rfl)
theorem dX3_habitByStrength_66 : decode cX3_habitByStrength 66 = .ok (.invokevirtual 101, 3) := dk_182 0 101 (dk_at dksX3_habitByStrength_2 18 rfl rfl)
theorem dX3_habitByStrength_69 : decode cX3_habitByStrength 69 = .ok (.if_icmp .ne 13, 3) := dk_160 0 13 (dk_at dksX3_habitByStrength_2 21 rfl rfl)
theorem dX3_habitByStrength_72 : decode cX3_habitByStrength 72 = .ok (.iload 4, 2) := dk_21 4 (dk_at dksX3_habitByStrength_3 0 rfl rfl)
theorem dX3_habitByStrength_74 : decode cX3_habitByStrength 74 = .ok (.iload_n 2, 1) := dk_28 (dk_at dksX3_habitByStrength_3 2 rfl rfl)
theorem dX3_habitByStrength_75 : decode cX3_habitByStrength 75 = .ok (.if_icmp .ge 7, 3) := dk_162 0 7 (dk_at dksX3_habitByStrength_3 3 rfl rfl)
theorem dX3_habitByStrength_78 : decode cX3_habitByStrength 78 = .ok (.iconst 1, 1) := dk_4 (dk_at dksX3_habitByStrength_3 6 rfl rfl)
theorem dX3_habitByStrength_79 : decode cX3_habitByStrength 79 = .ok (.goto 4, 3) := dk_167 0 4 (dk_at dksX3_habitByStrength_3 7 rfl rfl)
theorem dX3_habitByStrength_82 : decode cX3_habitByStrength 82 = .ok (.iconst 0, 1) := dk_3 (dk_at dksX3_habitByStrength_3 10 rfl rfl)
theorem dX3_habitByStrength_83 : decode cX3_habitByStrength 83 = .ok (.iadd, 1) := dk_96 (dk_at dksX3_habitByStrength_3 11 rfl rfl)
theorem dX3_habitByStrength_84 : decode cX3_habitByStrength 84 = .ok (.istore_n 3, 1) := dk_62 (dk_at dksX3_habitByStrength_3 12 rfl rfl)
theorem dX3_habitByStrength_85 : decode cX3_habitByStrength 85 = .ok (.iinc 4 1, 3) := dk_132 4 1 (dk_at dksX3_habitByStrength_3 13 rfl rfl)
theorem dX3_habitByStrength_88 : decode cX3_habitByStrength 88 = .ok (.goto (-60), 3) := dk_167 255 196 (dk_at dksX3_habitByStrength_3 16 rfl rfl)
theorem dX3_habitByStrength_91 : decode cX3_habitByStrength 91 = .ok (.iload_n 3, 1) := dk_29 (dk_at dksX3_habitByStrength_3 19 rfl rfl)
theorem dX3_habitByStrength_92 : decode cX3_habitByStrength 92 = .ok (.iload_n 1, 1) := dk_27 (dk_at dksX3_habitByStrength_3 20 rfl rfl)
theorem dX3_habitByStrength_93 : decode cX3_habitByStrength 93 = .ok (.if_icmp .eq 6, 3) := dk_159 0 6 (dk_at dksX3_habitByStrength_3 21 rfl rfl)
theorem dX3_habitByStrength_96 : decode cX3_habitByStrength 96 = .ok (.goto 10, 3) := dk_167 0 10 (dk_at dksX3_habitByStrength_4 0 rfl rfl)
theorem dX3_habitByStrength_99 : decode cX3_habitByStrength 99 = .ok (.aload_n 0, 1) := dk_42 (dk_at dksX3_habitByStrength_4 3 rfl rfl)
theorem dX3_habitByStrength_100 : decode cX3_habitByStrength 100 = .ok (.iconst 0, 1) := dk_3 (dk_at dksX3_habitByStrength_4 4 rfl rfl)
theorem dX3_habitByStrength_101 : decode cX3_habitByStrength 101 = .ok (.putfield 36, 3) := dk_181 0 36 (dk_at dksX3_habitByStrength_4 5 rfl rfl)
theorem dX3_habitByStrength_104 : decode cX3_habitByStrength 104 = .ok (.iload_n 2, 1) := dk_28 (dk_at dksX3_habitByStrength_4 8 rfl rfl)
theorem dX3_habitByStrength_105 : decode cX3_habitByStrength 105 = .ok (.ireturn, 1) := dk_172 (dk_at dksX3_habitByStrength_4 9 rfl rfl)
theorem dX3_habitByStrength_106 : decode cX3_habitByStrength 106 = .ok (.iinc 2 1, 3) := dk_132 2 1 (dk_at dksX3_habitByStrength_4 10 rfl rfl)
theorem dX3_habitByStrength_109 : decode cX3_habitByStrength 109 = .ok (.goto (-107), 3) := dk_167 255 149 (dk_at dksX3_habitByStrength_4 13 rfl rfl)
theorem dX3_habitByStrength_112 : decode cX3_habitByStrength 112 = .ok (.aload_n 0, 1) := dk_42 (dk_at dksX3_habitByStrength_4 16 rfl rfl)
theorem dX3_habitByStrength_113 : decode cX3_habitByStrength 113 = .ok (.iconst 1, 1) := dk_4 (dk_at dksX3_habitByStrength_4 17 rfl rfl)
theorem dX3_habitByStrength_114 : decode cX3_habitByStrength 114 = .ok (.putfield 36, 3) := dk_181 0 36 (dk_at dksX3_habitByStrength_4 18 rfl rfl)
theorem dX3_habitByStrength_117 : decode cX3_habitByStrength 117 = .ok (.iconst 0, 1) := dk_3 (dk_at dksX3_habitByStrength_4 21 rfl rfl)
theorem dX3_habitByStrength_118 : decode cX3_habitByStrength 118 = .ok (.ireturn, 1) := dk_172 (dk_at dksX3_habitByStrength_4 22 rfl rfl)
def dkwX3_personByStrength_4 : List UInt8 := [42, 4, 181, 0, 36, 3, 172]
abbrev dktX3_personByStrength_4 : List UInt8 := dkwX3_personByStrength_4 ++ []
def dkwX3_personByStrength_3 : List UInt8 := [167, 255, 215, 29, 27, 159, 0, 6, 167, 0, 10, 42, 3, 181, 0, 36, 28, 172, 132, 2, 1, 167, 255, 168]
abbrev dktX3_personByStrength_3 : List UInt8 := dkwX3_personByStrength_3 ++ dktX3_personByStrength_4
def dkwX3_personByStrength_2 : List UInt8 := [153, 0, 17, 42, 21, 4, 28, 182, 0, 182, 153, 0, 7, 4, 167, 0, 4, 3, 96, 62, 132, 4, 1]
abbrev dktX3_personByStrength_2 : List UInt8 := dkwX3_personByStrength_2 ++ dktX3_personByStrength_3
def dkwX3_personByStrength_1 : List UInt8 := [62, 3, 54, 4, 21, 4, 42, 180, 0, 7, 3, 46, 162, 0, 36, 29, 42, 21, 4, 182, 0, 85]
abbrev dktX3_personByStrength_1 : List UInt8 := dkwX3_personByStrength_1 ++ dktX3_personByStrength_2
def dkwX3_personByStrength_0 : List UInt8 := [3, 61, 28, 42, 180, 0, 7, 3, 46, 162, 0, 84, 42, 28, 182, 0, 85, 154, 0, 6, 167, 0, 67, 3]
abbrev dktX3_personByStrength_0 : List UInt8 := dkwX3_personByStrength_0 ++ dktX3_personByStrength_1
theorem dksX3_personByStrength_0 : cX3_personByStrength.data.toList.drop 0 = dktX3_personByStrength_0 := by decide +kernel
theorem dksX3_personByStrength_1 : cX3_personByStrength.data.toList.drop 24 = dktX3_personByStrength_1 := dk_seg dksX3_personByStrength_0 24 rfl rfl
theorem dksX3_personByStrength_2 : cX3_personByStrength.data.toList.drop 46 = dktX3_personByStrength_2 := dk_seg dksX3_personByStrength_1 22 rfl rfl
theorem dksX3_personByStrength_3 : cX3_personByStrength.data.toList.drop 69 = dktX3_personByStrength_3 := dk_seg dksX3_personByStrength_2 23 rfl rfl
theorem dksX3_personByStrength_4 : cX3_personByStrength.data.toList.drop 93 = dktX3_personByStrength_4 := dk_seg dksX3_personByStrength_3 24 rfl rfl
theorem dX3_personByStrength_0 : decode cX3_personByStrength 0 = .ok (.iconst 0, 1) := dk_3 (dk_at dksX3_personByStrength_0 0 rfl rfl)
theorem dX3_personByStrength_1 : decode cX3_personByStrength 1 = .ok (.istore_n 2, 1) := dk_61 (dk_at dksX3_personByStrength_0 1 rfl rfl)
theorem dX3_personByStrength_2 : decode cX3_personByStrength 2 = .ok (.iload_n 2, 1) := dk_28 (dk_at dksX3_personByStrength_0 2 rfl rfl)
theorem dX3_personByStrength_3 : decode cX3_personByStrength 3 = .ok (.aload_n 0, 1) := dk_42 (dk_at dksX3_personByStrength_0 3 rfl rfl)
theorem dX3_personByStrength_4 : decode cX3_personByStrength 4 = .ok (.getfield 7, 3) := dk_180 0 7 (dk_at dksX3_personByStrength_0 4 rfl rfl)
theorem dX3_personByStrength_7 : decode cX3_personByStrength 7 = .ok (.iconst 0, 1) := dk_3 (dk_at dksX3_personByStrength_0 7 rfl rfl)
theorem dX3_personByStrength_8 : decode cX3_personByStrength 8 = .ok (.iaload, 1) := dk_46 (dk_at dksX3_personByStrength_0 8 rfl rfl)
theorem dX3_personByStrength_9 : decode cX3_personByStrength 9 = .ok (.if_icmp .ge 84, 3) := dk_162 0 84 (dk_at dksX3_personByStrength_0 9 rfl rfl)
theorem dX3_personByStrength_12 : decode cX3_personByStrength 12 = .ok (.aload_n 0, 1) := dk_42 (dk_at dksX3_personByStrength_0 12 rfl rfl)
theorem dX3_personByStrength_13 : decode cX3_personByStrength 13 = .ok (.iload_n 2, 1) := dk_28 (dk_at dksX3_personByStrength_0 13 rfl rfl)
theorem dX3_personByStrength_14 : decode cX3_personByStrength 14 = .ok (.invokevirtual 85, 3) := dk_182 0 85 (dk_at dksX3_personByStrength_0 14 rfl rfl)
theorem dX3_personByStrength_17 : decode cX3_personByStrength 17 = .ok (.ifCond .ne 6, 3) := dk_154 0 6 (dk_at dksX3_personByStrength_0 17 rfl rfl)
theorem dX3_personByStrength_20 : decode cX3_personByStrength 20 = .ok (.goto 67, 3) := dk_167 0 67 (dk_at dksX3_personByStrength_0 20 rfl rfl)
theorem dX3_personByStrength_23 : decode cX3_personByStrength 23 = .ok (.iconst 0, 1) := dk_3 (dk_at dksX3_personByStrength_0 23 rfl rfl)
theorem dX3_personByStrength_24 : decode cX3_personByStrength 24 = .ok (.istore_n 3, 1) := dk_62 (dk_at dksX3_personByStrength_1 0 rfl rfl)
theorem dX3_personByStrength_25 : decode cX3_personByStrength 25 = .ok (.iconst 0, 1) := dk_3 (dk_at dksX3_personByStrength_1 1 rfl rfl)
theorem dX3_personByStrength_26 : decode cX3_personByStrength 26 = .ok (.istore 4, 2) := dk_54 4 (dk_at dksX3_personByStrength_1 2 rfl rfl)
theorem dX3_personByStrength_28 : decode cX3_personByStrength 28 = .ok (.iload 4, 2) := dk_21 4 (dk_at dksX3_personByStrength_1 4 rfl rfl)
theorem dX3_personByStrength_30 : decode cX3_personByStrength 30 = .ok (.aload_n 0, 1) := dk_42 (dk_at dksX3_personByStrength_1 6 rfl rfl)
theorem dX3_personByStrength_31 : decode cX3_personByStrength 31 = .ok (.getfield 7, 3) := dk_180 0 7 (dk_at dksX3_personByStrength_1 7 rfl rfl)
theorem dX3_personByStrength_34 : decode cX3_personByStrength 34 = .ok (.iconst 0, 1) := dk_3 (dk_at dksX3_personByStrength_1 10 rfl rfl)
theorem dX3_personByStrength_35 : decode cX3_personByStrength 35 = .ok (.iaload, 1) := dk_46 (dk_at dksX3_personByStrength_1 11 rfl rfl)
theorem dX3_personByStrength_36 : decode cX3_personByStrength 36 = .ok (.if_icmp .ge 36, 3) := dk_162 0 36 (dk_at dksX3_personByStrength_1 12 rfl rfl)
theorem dX3_personByStrength_39 : decode cX3_personByStrength 39 = .ok (.iload_n 3, 1) := dk_29 (dk_at dksX3_personByStrength_1 15 rfl rfl)
theorem dX3_personByStrength_40 : decode cX3_personByStrength 40 = .ok (.aload_n 0, 1) := dk_42 (dk_at dksX3_personByStrength_1 16 rfl rfl)
theorem dX3_personByStrength_41 : decode cX3_personByStrength 41 = .ok (.iload 4, 2) := dk_21 4 (dk_at dksX3_personByStrength_1 17 rfl rfl)
theorem dX3_personByStrength_43 : decode cX3_personByStrength 43 = .ok (.invokevirtual 85, 3) := dk_182 0 85 (dk_at dksX3_personByStrength_1 19 rfl rfl)
theorem dX3_personByStrength_46 : decode cX3_personByStrength 46 = .ok (.ifCond .eq 17, 3) := dk_153 0 17 (dk_at dksX3_personByStrength_2 0 rfl rfl)
theorem dX3_personByStrength_49 : decode cX3_personByStrength 49 = .ok (.aload_n 0, 1) := dk_42 (dk_at dksX3_personByStrength_2 3 rfl rfl)
theorem dX3_personByStrength_50 : decode cX3_personByStrength 50 = .ok (.iload 4, 2) := dk_21 4 (dk_at dksX3_personByStrength_2 4 rfl rfl)
theorem dX3_personByStrength_52 : decode cX3_personByStrength 52 = .ok (.iload_n 2, 1) := dk_28 (dk_at dksX3_personByStrength_2 6 rfl rfl)
theorem dX3_personByStrength_53 : decode cX3_personByStrength 53 = .ok (.invokevirtual 182, 3) := dk_182 0 182 (dk_at dksX3_personByStrength_2 7 rfl rfl)
theorem dX3_personByStrength_56 : decode cX3_personByStrength 56 = .ok (.ifCond .eq 7, 3) := dk_153 0 7 (dk_at dksX3_personByStrength_2 10 rfl rfl)
theorem dX3_personByStrength_59 : decode cX3_personByStrength 59 = .ok (.iconst 1, 1) := dk_4 (dk_at dksX3_personByStrength_2 13 rfl rfl)
theorem dX3_personByStrength_60 : decode cX3_personByStrength 60 = .ok (.goto 4, 3) := dk_167 0 4 (dk_at dksX3_personByStrength_2 14 rfl rfl)
theorem dX3_personByStrength_63 : decode cX3_personByStrength 63 = .ok (.iconst 0, 1) := dk_3 (dk_at dksX3_personByStrength_2 17 rfl rfl)
theorem dX3_personByStrength_64 : decode cX3_personByStrength 64 = .ok (.iadd, 1) := dk_96 (dk_at dksX3_personByStrength_2 18 rfl rfl)
theorem dX3_personByStrength_65 : decode cX3_personByStrength 65 = .ok (.istore_n 3, 1) := dk_62 (dk_at dksX3_personByStrength_2 19 rfl rfl)
theorem dX3_personByStrength_66 : decode cX3_personByStrength 66 = .ok (.iinc 4 1, 3) := dk_132 4 1 (dk_at dksX3_personByStrength_2 20 rfl rfl)
theorem dX3_personByStrength_69 : decode cX3_personByStrength 69 = .ok (.goto (-41), 3) := dk_167 255 215 (dk_at dksX3_personByStrength_3 0 rfl rfl)
theorem dX3_personByStrength_72 : decode cX3_personByStrength 72 = .ok (.iload_n 3, 1) := dk_29 (dk_at dksX3_personByStrength_3 3 rfl rfl)
theorem dX3_personByStrength_73 : decode cX3_personByStrength 73 = .ok (.iload_n 1, 1) := dk_27 (dk_at dksX3_personByStrength_3 4 rfl rfl)
theorem dX3_personByStrength_74 : decode cX3_personByStrength 74 = .ok (.if_icmp .eq 6, 3) := dk_159 0 6 (dk_at dksX3_personByStrength_3 5 rfl rfl)
theorem dX3_personByStrength_77 : decode cX3_personByStrength 77 = .ok (.goto 10, 3) := dk_167 0 10 (dk_at dksX3_personByStrength_3 8 rfl rfl)
theorem dX3_personByStrength_80 : decode cX3_personByStrength 80 = .ok (.aload_n 0, 1) := dk_42 (dk_at dksX3_personByStrength_3 11 rfl rfl)
theorem dX3_personByStrength_81 : decode cX3_personByStrength 81 = .ok (.iconst 0, 1) := dk_3 (dk_at dksX3_personByStrength_3 12 rfl rfl)
theorem dX3_personByStrength_82 : decode cX3_personByStrength 82 = .ok (.putfield 36, 3) := dk_181 0 36 (dk_at dksX3_personByStrength_3 13 rfl rfl)
theorem dX3_personByStrength_85 : decode cX3_personByStrength 85 = .ok (.iload_n 2, 1) := dk_28 (dk_at dksX3_personByStrength_3 16 rfl rfl)
theorem dX3_personByStrength_86 : decode cX3_personByStrength 86 = .ok (.ireturn, 1) := dk_172 (dk_at dksX3_personByStrength_3 17 rfl rfl)
theorem dX3_personByStrength_87 : decode cX3_personByStrength 87 = .ok (.iinc 2 1, 3) := dk_132 2 1 (dk_at dksX3_personByStrength_3 18 rfl rfl)
theorem dX3_personByStrength_90 : decode cX3_personByStrength 90 = .ok (.goto (-88), 3) := dk_167 255 168 (dk_at dksX3_personByStrength_3 21 rfl rfl)
theorem dX3_personByStrength_93 : decode cX3_personByStrength 93 = .ok (.aload_n 0, 1) := dk_42 (dk_at dksX3_personByStrength_4 0 rfl rfl)
theorem dX3_personByStrength_94 : decode cX3_personByStrength 94 = .ok (.iconst 1, 1) := dk_4 (dk_at dksX3_personByStrength_4 1 rfl rfl)
theorem dX3_personByStrength_95 : decode cX3_personByStrength 95 = .ok (.putfield 36, 3) := dk_181 0 36 (dk_at dksX3_personByStrength_4 2 rfl rfl)
theorem dX3_personByStrength_98 : decode cX3_personByStrength 98 = .ok (.iconst 0, 1) := dk_3 (dk_at dksX3_personByStrength_4 5 rfl rfl)
theorem dX3_personByStrength_99 : decode cX3_personByStrength 99 = .ok (.ireturn, 1) := dk_172 (dk_at dksX3_personByStrength_4 6 rfl rfl)
def dkwX3_isAhead_2 : List UInt8 := [154, 0, 12, 27, 28, 162, 0, 7, 4, 167, 0, 4, 3, 172]
abbrev dktX3_isAhead_2 : List UInt8 := dkwX3_isAhead_2 ++ []
def dkwX3_isAhead_1 : List UInt8 := [3, 172, 42, 27, 182, 0, 131, 42, 28, 182, 0, 131, 100, 54, 4, 21, 4, 155, 0, 13, 21, 4]
abbrev dktX3_isAhead_1 : List UInt8 := dkwX3_isAhead_1 ++ dktX3_isAhead_2
def dkwX3_isAhead_0 : List UInt8 := [42, 27, 182, 0, 173, 42, 28, 182, 0, 173, 100, 62, 29, 153, 0, 13, 29, 158, 0, 7, 4, 167, 0, 4]
abbrev dktX3_isAhead_0 : List UInt8 := dkwX3_isAhead_0 ++ dktX3_isAhead_1
theorem dksX3_isAhead_0 : cX3_isAhead.data.toList.drop 0 = dktX3_isAhead_0 := by decide +kernel
theorem dksX3_isAhead_1 : cX3_isAhead.data.toList.drop 24 = dktX3_isAhead_1 := dk_seg dksX3_isAhead_0 24 rfl rfl
theorem dksX3_isAhead_2 : cX3_isAhead.data.toList.drop 46 = dktX3_isAhead_2 := dk_seg dksX3_isAhead_1 22 rfl rfl
theorem dX3_isAhead_0 : decode cX3_isAhead 0 = .ok (.aload_n 0, 1) := dk_42 (dk_at dksX3_isAhead_0 0 rfl rfl)
theorem dX3_isAhead_1 : decode cX3_isAhead 1 = .ok (.iload_n 1, 1) := dk_27 (dk_at dksX3_isAhead_0 1 rfl rfl)
theorem dX3_isAhead_2 : decode cX3_isAhead 2 = .ok (.invokevirtual 173, 3) := dk_182 0 173 (dk_at dksX3_isAhead_0 2 rfl rfl)
theorem dX3_isAhead_5 : decode cX3_isAhead 5 = .ok (.aload_n 0, 1) := dk_42 (dk_at dksX3_isAhead_0 5 rfl rfl)
theorem dX3_isAhead_6 : decode cX3_isAhead 6 = .ok (.iload_n 2, 1) := dk_28 (dk_at dksX3_isAhead_0 6 rfl rfl)
theorem dX3_isAhead_7 : decode cX3_isAhead 7 = .ok (.invokevirtual 173, 3) := dk_182 0 173 (dk_at dksX3_isAhead_0 7 rfl rfl)
theorem dX3_isAhead_10 : decode cX3_isAhead 10 = .ok (.isub, 1) := dk_100 (dk_at dksX3_isAhead_0 10 rfl rfl)
theorem dX3_isAhead_11 : decode cX3_isAhead 11 = .ok (.istore_n 3, 1) := dk_62 (dk_at dksX3_isAhead_0 11 rfl rfl)
theorem dX3_isAhead_12 : decode cX3_isAhead 12 = .ok (.iload_n 3, 1) := dk_29 (dk_at dksX3_isAhead_0 12 rfl rfl)
theorem dX3_isAhead_13 : decode cX3_isAhead 13 = .ok (.ifCond .eq 13, 3) := dk_153 0 13 (dk_at dksX3_isAhead_0 13 rfl rfl)
theorem dX3_isAhead_16 : decode cX3_isAhead 16 = .ok (.iload_n 3, 1) := dk_29 (dk_at dksX3_isAhead_0 16 rfl rfl)
theorem dX3_isAhead_17 : decode cX3_isAhead 17 = .ok (.ifCond .le 7, 3) := dk_158 0 7 (dk_at dksX3_isAhead_0 17 rfl rfl)
theorem dX3_isAhead_20 : decode cX3_isAhead 20 = .ok (.iconst 1, 1) := dk_4 (dk_at dksX3_isAhead_0 20 rfl rfl)
theorem dX3_isAhead_21 : decode cX3_isAhead 21 = .ok (.goto 4, 3) := dk_167 0 4 (dk_at dksX3_isAhead_0 21 rfl rfl)
theorem dX3_isAhead_24 : decode cX3_isAhead 24 = .ok (.iconst 0, 1) := dk_3 (dk_at dksX3_isAhead_1 0 rfl rfl)
theorem dX3_isAhead_25 : decode cX3_isAhead 25 = .ok (.ireturn, 1) := dk_172 (dk_at dksX3_isAhead_1 1 rfl rfl)
theorem dX3_isAhead_26 : decode cX3_isAhead 26 = .ok (.aload_n 0, 1) := dk_42 (dk_at dksX3_isAhead_1 2 rfl rfl)
theorem dX3_isAhead_27 : decode cX3_isAhead 27 = .ok (.iload_n 1, 1) := dk_27 (dk_at dksX3_isAhead_1 3 rfl rfl)
theorem dX3_isAhead_28 : decode cX3_isAhead 28 = .ok (.invokevirtual 131, 3) := dk_182 0 131 (dk_at dksX3_isAhead_1 4 rfl rfl)
theorem dX3_isAhead_31 : decode cX3_isAhead 31 = .ok (.aload_n 0, 1) := dk_42 (dk_at dksX3_isAhead_1 7 rfl rfl)
theorem dX3_isAhead_32 : decode cX3_isAhead 32 = .ok (.iload_n 2, 1) := dk_28 (dk_at dksX3_isAhead_1 8 rfl rfl)
theorem dX3_isAhead_33 : decode cX3_isAhead 33 = .ok (.invokevirtual 131, 3) := dk_182 0 131 (dk_at dksX3_isAhead_1 9 rfl rfl)
theorem dX3_isAhead_36 : decode cX3_isAhead 36 = .ok (.isub, 1) := dk_100 (dk_at dksX3_isAhead_1 12 rfl rfl)
theorem dX3_isAhead_37 : decode cX3_isAhead 37 = .ok (.istore 4, 2) := dk_54 4 (dk_at dksX3_isAhead_1 13 rfl rfl)
theorem dX3_isAhead_39 : decode cX3_isAhead 39 = .ok (.iload 4, 2) := dk_21 4 (dk_at dksX3_isAhead_1 15 rfl rfl)
theorem dX3_isAhead_41 : decode cX3_isAhead 41 = .ok (.ifCond .lt 13, 3) := dk_155 0 13 (dk_at dksX3_isAhead_1 17 rfl rfl)
theorem dX3_isAhead_44 : decode cX3_isAhead 44 = .ok (.iload 4, 2) := dk_21 4 (dk_at dksX3_isAhead_1 20 rfl rfl)
theorem dX3_isAhead_46 : decode cX3_isAhead 46 = .ok (.ifCond .ne 12, 3) := dk_154 0 12 (dk_at dksX3_isAhead_2 0 rfl rfl)
theorem dX3_isAhead_49 : decode cX3_isAhead 49 = .ok (.iload_n 1, 1) := dk_27 (dk_at dksX3_isAhead_2 3 rfl rfl)
theorem dX3_isAhead_50 : decode cX3_isAhead 50 = .ok (.iload_n 2, 1) := dk_28 (dk_at dksX3_isAhead_2 4 rfl rfl)
theorem dX3_isAhead_51 : decode cX3_isAhead 51 = .ok (.if_icmp .ge 7, 3) := dk_162 0 7 (dk_at dksX3_isAhead_2 5 rfl rfl)
theorem dX3_isAhead_54 : decode cX3_isAhead 54 = .ok (.iconst 1, 1) := dk_4 (dk_at dksX3_isAhead_2 8 rfl rfl)
theorem dX3_isAhead_55 : decode cX3_isAhead 55 = .ok (.goto 4, 3) := dk_167 0 4 (dk_at dksX3_isAhead_2 9 rfl rfl)
theorem dX3_isAhead_58 : decode cX3_isAhead 58 = .ok (.iconst 0, 1) := dk_3 (dk_at dksX3_isAhead_2 12 rfl rfl)
theorem dX3_isAhead_59 : decode cX3_isAhead 59 = .ok (.ireturn, 1) := dk_172 (dk_at dksX3_isAhead_2 13 rfl rfl)
def dkwX3_meanStrength_1 : List UInt8 := [182, 0, 179, 135, 42, 182, 0, 185, 135, 111, 175]
abbrev dktX3_meanStrength_1 : List UInt8 := dkwX3_meanStrength_1 ++ []
def dkwX3_meanStrength_0 : List UInt8 := [42, 42, 182, 0, 185, 154, 0, 7, 4, 167, 0, 4, 3, 182, 0, 82, 153, 0, 7, 14, 167, 0, 14, 42]
abbrev dktX3_meanStrength_0 : List UInt8 := dkwX3_meanStrength_0 ++ dktX3_meanStrength_1
theorem dksX3_meanStrength_0 : cX3_meanStrength.data.toList.drop 0 = dktX3_meanStrength_0 := by decide +kernel
theorem dksX3_meanStrength_1 : cX3_meanStrength.data.toList.drop 24 = dktX3_meanStrength_1 := dk_seg dksX3_meanStrength_0 24 rfl rfl
theorem dX3_meanStrength_0 : decode cX3_meanStrength 0 = .ok (.aload_n 0, 1) := dk_42 (dk_at dksX3_meanStrength_0 0 rfl rfl)
theorem dX3_meanStrength_1 : decode cX3_meanStrength 1 = .ok (.aload_n 0, 1) := dk_42 (dk_at dksX3_meanStrength_0 1 rfl rfl)
theorem dX3_meanStrength_2 : decode cX3_meanStrength 2 = .ok (.invokevirtual 185, 3) := dk_182 0 185 (dk_at dksX3_meanStrength_0 2 rfl rfl)
theorem dX3_meanStrength_5 : decode cX3_meanStrength 5 = .ok (.ifCond .ne 7, 3) := dk_154 0 7 (dk_at dksX3_meanStrength_0 5 rfl rfl)
theorem dX3_meanStrength_8 : decode cX3_meanStrength 8 = .ok (.iconst 1, 1) := dk_4 (dk_at dksX3_meanStrength_0 8 rfl rfl)
theorem dX3_meanStrength_9 : decode cX3_meanStrength 9 = .ok (.goto 4, 3) := dk_167 0 4 (dk_at dksX3_meanStrength_0 9 rfl rfl)
theorem dX3_meanStrength_12 : decode cX3_meanStrength 12 = .ok (.iconst 0, 1) := dk_3 (dk_at dksX3_meanStrength_0 12 rfl rfl)
theorem dX3_meanStrength_13 : decode cX3_meanStrength 13 = .ok (.invokevirtual 82, 3) := dk_182 0 82 (dk_at dksX3_meanStrength_0 13 rfl rfl)
theorem dX3_meanStrength_16 : decode cX3_meanStrength 16 = .ok (.ifCond .eq 7, 3) := dk_153 0 7 (dk_at dksX3_meanStrength_0 16 rfl rfl)
theorem dX3_meanStrength_19 : decode cX3_meanStrength 19 = .ok (.dconst 0, 1) := dk_14 (dk_at dksX3_meanStrength_0 19 rfl rfl)
theorem dX3_meanStrength_20 : decode cX3_meanStrength 20 = .ok (.goto 14, 3) := dk_167 0 14 (dk_at dksX3_meanStrength_0 20 rfl rfl)
theorem dX3_meanStrength_23 : decode cX3_meanStrength 23 = .ok (.aload_n 0, 1) := dk_42 (dk_at dksX3_meanStrength_0 23 rfl rfl)
theorem dX3_meanStrength_24 : decode cX3_meanStrength 24 = .ok (.invokevirtual 179, 3) := dk_182 0 179 (dk_at dksX3_meanStrength_1 0 rfl rfl)
theorem dX3_meanStrength_27 : decode cX3_meanStrength 27 = .ok (.i2d, 1) := dk_135 (dk_at dksX3_meanStrength_1 3 rfl rfl)
theorem dX3_meanStrength_28 : decode cX3_meanStrength 28 = .ok (.aload_n 0, 1) := dk_42 (dk_at dksX3_meanStrength_1 4 rfl rfl)
theorem dX3_meanStrength_29 : decode cX3_meanStrength 29 = .ok (.invokevirtual 185, 3) := dk_182 0 185 (dk_at dksX3_meanStrength_1 5 rfl rfl)
theorem dX3_meanStrength_32 : decode cX3_meanStrength 32 = .ok (.i2d, 1) := dk_135 (dk_at dksX3_meanStrength_1 8 rfl rfl)
theorem dX3_meanStrength_33 : decode cX3_meanStrength 33 = .ok (.ddiv, 1) := dk_111 (dk_at dksX3_meanStrength_1 9 rfl rfl)
theorem dX3_meanStrength_34 : decode cX3_meanStrength 34 = .ok (.dreturn, 1) := dk_175 (dk_at dksX3_meanStrength_1 10 rfl rfl)
def dkwX3_lasting_1 : List UInt8 := [167, 0, 4, 4, 96, 60, 132, 2, 1, 167, 255, 227, 27, 172]
abbrev dktX3_lasting_1 : List UInt8 := dkwX3_lasting_1 ++ []
def dkwX3_lasting_0 : List UInt8 := [3, 60, 3, 61, 28, 42, 180, 0, 7, 4, 46, 162, 0, 25, 27, 42, 28, 182, 0, 160, 153, 0, 7, 3]
abbrev dktX3_lasting_0 : List UInt8 := dkwX3_lasting_0 ++ dktX3_lasting_1
theorem dksX3_lasting_0 : cX3_lasting.data.toList.drop 0 = dktX3_lasting_0 := by decide +kernel
theorem dksX3_lasting_1 : cX3_lasting.data.toList.drop 24 = dktX3_lasting_1 := dk_seg dksX3_lasting_0 24 rfl rfl
theorem dX3_lasting_0 : decode cX3_lasting 0 = .ok (.iconst 0, 1) := dk_3 (dk_at dksX3_lasting_0 0 rfl rfl)
theorem dX3_lasting_1 : decode cX3_lasting 1 = .ok (.istore_n 1, 1) := dk_60 (dk_at dksX3_lasting_0 1 rfl rfl)
theorem dX3_lasting_2 : decode cX3_lasting 2 = .ok (.iconst 0, 1) := dk_3 (dk_at dksX3_lasting_0 2 rfl rfl)
theorem dX3_lasting_3 : decode cX3_lasting 3 = .ok (.istore_n 2, 1) := dk_61 (dk_at dksX3_lasting_0 3 rfl rfl)
theorem dX3_lasting_4 : decode cX3_lasting 4 = .ok (.iload_n 2, 1) := dk_28 (dk_at dksX3_lasting_0 4 rfl rfl)
theorem dX3_lasting_5 : decode cX3_lasting 5 = .ok (.aload_n 0, 1) := dk_42 (dk_at dksX3_lasting_0 5 rfl rfl)
theorem dX3_lasting_6 : decode cX3_lasting 6 = .ok (.getfield 7, 3) := dk_180 0 7 (dk_at dksX3_lasting_0 6 rfl rfl)
theorem dX3_lasting_9 : decode cX3_lasting 9 = .ok (.iconst 1, 1) := dk_4 (dk_at dksX3_lasting_0 9 rfl rfl)
theorem dX3_lasting_10 : decode cX3_lasting 10 = .ok (.iaload, 1) := dk_46 (dk_at dksX3_lasting_0 10 rfl rfl)
theorem dX3_lasting_11 : decode cX3_lasting 11 = .ok (.if_icmp .ge 25, 3) := dk_162 0 25 (dk_at dksX3_lasting_0 11 rfl rfl)
theorem dX3_lasting_14 : decode cX3_lasting 14 = .ok (.iload_n 1, 1) := dk_27 (dk_at dksX3_lasting_0 14 rfl rfl)
theorem dX3_lasting_15 : decode cX3_lasting 15 = .ok (.aload_n 0, 1) := dk_42 (dk_at dksX3_lasting_0 15 rfl rfl)
theorem dX3_lasting_16 : decode cX3_lasting 16 = .ok (.iload_n 2, 1) := dk_28 (dk_at dksX3_lasting_0 16 rfl rfl)
theorem dX3_lasting_17 : decode cX3_lasting 17 = .ok (.invokevirtual 160, 3) := dk_182 0 160 (dk_at dksX3_lasting_0 17 rfl rfl)
theorem dX3_lasting_20 : decode cX3_lasting 20 = .ok (.ifCond .eq 7, 3) := dk_153 0 7 (dk_at dksX3_lasting_0 20 rfl rfl)
theorem dX3_lasting_23 : decode cX3_lasting 23 = .ok (.iconst 0, 1) := dk_3 (dk_at dksX3_lasting_0 23 rfl rfl)
theorem dX3_lasting_24 : decode cX3_lasting 24 = .ok (.goto 4, 3) := dk_167 0 4 (dk_at dksX3_lasting_1 0 rfl rfl)
theorem dX3_lasting_27 : decode cX3_lasting 27 = .ok (.iconst 1, 1) := dk_4 (dk_at dksX3_lasting_1 3 rfl rfl)
theorem dX3_lasting_28 : decode cX3_lasting 28 = .ok (.iadd, 1) := dk_96 (dk_at dksX3_lasting_1 4 rfl rfl)
theorem dX3_lasting_29 : decode cX3_lasting 29 = .ok (.istore_n 1, 1) := dk_60 (dk_at dksX3_lasting_1 5 rfl rfl)
theorem dX3_lasting_30 : decode cX3_lasting 30 = .ok (.iinc 2 1, 3) := dk_132 2 1 (dk_at dksX3_lasting_1 6 rfl rfl)
theorem dX3_lasting_33 : decode cX3_lasting 33 = .ok (.goto (-29), 3) := dk_167 255 227 (dk_at dksX3_lasting_1 9 rfl rfl)
theorem dX3_lasting_36 : decode cX3_lasting 36 = .ok (.iload_n 1, 1) := dk_27 (dk_at dksX3_lasting_1 12 rfl rfl)
theorem dX3_lasting_37 : decode cX3_lasting 37 = .ok (.ireturn, 1) := dk_172 (dk_at dksX3_lasting_1 13 rfl rfl)
def dkwX3_livingShare_1 : List UInt8 := [167, 0, 16, 42, 182, 0, 124, 134, 42, 180, 0, 7, 3, 46, 134, 110, 174]
abbrev dktX3_livingShare_1 : List UInt8 := dkwX3_livingShare_1 ++ []
def dkwX3_livingShare_0 : List UInt8 := [42, 42, 180, 0, 7, 3, 46, 154, 0, 7, 4, 167, 0, 4, 3, 182, 0, 82, 153, 0, 7, 11]
abbrev dktX3_livingShare_0 : List UInt8 := dkwX3_livingShare_0 ++ dktX3_livingShare_1
theorem dksX3_livingShare_0 : cX3_livingShare.data.toList.drop 0 = dktX3_livingShare_0 := by decide +kernel
theorem dksX3_livingShare_1 : cX3_livingShare.data.toList.drop 22 = dktX3_livingShare_1 := dk_seg dksX3_livingShare_0 22 rfl rfl
theorem dX3_livingShare_0 : decode cX3_livingShare 0 = .ok (.aload_n 0, 1) := dk_42 (dk_at dksX3_livingShare_0 0 rfl rfl)
theorem dX3_livingShare_1 : decode cX3_livingShare 1 = .ok (.aload_n 0, 1) := dk_42 (dk_at dksX3_livingShare_0 1 rfl rfl)
theorem dX3_livingShare_2 : decode cX3_livingShare 2 = .ok (.getfield 7, 3) := dk_180 0 7 (dk_at dksX3_livingShare_0 2 rfl rfl)
theorem dX3_livingShare_5 : decode cX3_livingShare 5 = .ok (.iconst 0, 1) := dk_3 (dk_at dksX3_livingShare_0 5 rfl rfl)
theorem dX3_livingShare_6 : decode cX3_livingShare 6 = .ok (.iaload, 1) := dk_46 (dk_at dksX3_livingShare_0 6 rfl rfl)
theorem dX3_livingShare_7 : decode cX3_livingShare 7 = .ok (.ifCond .ne 7, 3) := dk_154 0 7 (dk_at dksX3_livingShare_0 7 rfl rfl)
theorem dX3_livingShare_10 : decode cX3_livingShare 10 = .ok (.iconst 1, 1) := dk_4 (dk_at dksX3_livingShare_0 10 rfl rfl)
theorem dX3_livingShare_11 : decode cX3_livingShare 11 = .ok (.goto 4, 3) := dk_167 0 4 (dk_at dksX3_livingShare_0 11 rfl rfl)
theorem dX3_livingShare_14 : decode cX3_livingShare 14 = .ok (.iconst 0, 1) := dk_3 (dk_at dksX3_livingShare_0 14 rfl rfl)
theorem dX3_livingShare_15 : decode cX3_livingShare 15 = .ok (.invokevirtual 82, 3) := dk_182 0 82 (dk_at dksX3_livingShare_0 15 rfl rfl)
theorem dX3_livingShare_18 : decode cX3_livingShare 18 = .ok (.ifCond .eq 7, 3) := dk_153 0 7 (dk_at dksX3_livingShare_0 18 rfl rfl)
theorem dX3_livingShare_21 : decode cX3_livingShare 21 = .ok (.fconst 0, 1) := dk_11 (dk_at dksX3_livingShare_0 21 rfl rfl)
theorem dX3_livingShare_22 : decode cX3_livingShare 22 = .ok (.goto 16, 3) := dk_167 0 16 (dk_at dksX3_livingShare_1 0 rfl rfl)
theorem dX3_livingShare_25 : decode cX3_livingShare 25 = .ok (.aload_n 0, 1) := dk_42 (dk_at dksX3_livingShare_1 3 rfl rfl)
theorem dX3_livingShare_26 : decode cX3_livingShare 26 = .ok (.invokevirtual 124, 3) := dk_182 0 124 (dk_at dksX3_livingShare_1 4 rfl rfl)
theorem dX3_livingShare_29 : decode cX3_livingShare 29 = .ok (.i2f, 1) := dk_134 (dk_at dksX3_livingShare_1 7 rfl rfl)
theorem dX3_livingShare_30 : decode cX3_livingShare 30 = .ok (.aload_n 0, 1) := dk_42 (dk_at dksX3_livingShare_1 8 rfl rfl)
theorem dX3_livingShare_31 : decode cX3_livingShare 31 = .ok (.getfield 7, 3) := dk_180 0 7 (dk_at dksX3_livingShare_1 9 rfl rfl)
theorem dX3_livingShare_34 : decode cX3_livingShare 34 = .ok (.iconst 0, 1) := dk_3 (dk_at dksX3_livingShare_1 12 rfl rfl)
theorem dX3_livingShare_35 : decode cX3_livingShare 35 = .ok (.iaload, 1) := dk_46 (dk_at dksX3_livingShare_1 13 rfl rfl)
theorem dX3_livingShare_36 : decode cX3_livingShare 36 = .ok (.i2f, 1) := dk_134 (dk_at dksX3_livingShare_1 14 rfl rfl)
theorem dX3_livingShare_37 : decode cX3_livingShare 37 = .ok (.fdiv, 1) := dk_110 (dk_at dksX3_livingShare_1 15 rfl rfl)
theorem dX3_livingShare_38 : decode cX3_livingShare 38 = .ok (.freturn, 1) := dk_174 (dk_at dksX3_livingShare_1 16 rfl rfl)
def dkwX3_isConsistent_1 : List UInt8 := [96, 42, 180, 0, 7, 4, 46, 42, 182, 0, 185, 100, 160, 0, 7, 4, 167, 0, 4, 3, 172]
abbrev dktX3_isConsistent_1 : List UInt8 := dkwX3_isConsistent_1 ++ []
def dkwX3_isConsistent_0 : List UInt8 := [42, 3, 181, 0, 36, 42, 180, 0, 7, 6, 46, 42, 180, 0, 7, 7, 46, 96, 42, 180, 0, 7, 8, 46]
abbrev dktX3_isConsistent_0 : List UInt8 := dkwX3_isConsistent_0 ++ dktX3_isConsistent_1
theorem dksX3_isConsistent_0 : cX3_isConsistent.data.toList.drop 0 = dktX3_isConsistent_0 := by decide +kernel
theorem dksX3_isConsistent_1 : cX3_isConsistent.data.toList.drop 24 = dktX3_isConsistent_1 := dk_seg dksX3_isConsistent_0 24 rfl rfl
theorem dX3_isConsistent_0 : decode cX3_isConsistent 0 = .ok (.aload_n 0, 1) := dk_42 (dk_at dksX3_isConsistent_0 0 rfl rfl)
theorem dX3_isConsistent_1 : decode cX3_isConsistent 1 = .ok (.iconst 0, 1) := dk_3 (dk_at dksX3_isConsistent_0 1 rfl rfl)
theorem dX3_isConsistent_2 : decode cX3_isConsistent 2 = .ok (.putfield 36, 3) := dk_181 0 36 (dk_at dksX3_isConsistent_0 2 rfl rfl)
theorem dX3_isConsistent_5 : decode cX3_isConsistent 5 = .ok (.aload_n 0, 1) := dk_42 (dk_at dksX3_isConsistent_0 5 rfl rfl)
theorem dX3_isConsistent_6 : decode cX3_isConsistent 6 = .ok (.getfield 7, 3) := dk_180 0 7 (dk_at dksX3_isConsistent_0 6 rfl rfl)
theorem dX3_isConsistent_9 : decode cX3_isConsistent 9 = .ok (.iconst 3, 1) := dk_6 (dk_at dksX3_isConsistent_0 9 rfl rfl)
theorem dX3_isConsistent_10 : decode cX3_isConsistent 10 = .ok (.iaload, 1) := dk_46 (dk_at dksX3_isConsistent_0 10 rfl rfl)
theorem dX3_isConsistent_11 : decode cX3_isConsistent 11 = .ok (.aload_n 0, 1) := dk_42 (dk_at dksX3_isConsistent_0 11 rfl rfl)
theorem dX3_isConsistent_12 : decode cX3_isConsistent 12 = .ok (.getfield 7, 3) := dk_180 0 7 (dk_at dksX3_isConsistent_0 12 rfl rfl)
theorem dX3_isConsistent_15 : decode cX3_isConsistent 15 = .ok (.iconst 4, 1) := dk_7 (dk_at dksX3_isConsistent_0 15 rfl rfl)
theorem dX3_isConsistent_16 : decode cX3_isConsistent 16 = .ok (.iaload, 1) := dk_46 (dk_at dksX3_isConsistent_0 16 rfl rfl)
theorem dX3_isConsistent_17 : decode cX3_isConsistent 17 = .ok (.iadd, 1) := dk_96 (dk_at dksX3_isConsistent_0 17 rfl rfl)
theorem dX3_isConsistent_18 : decode cX3_isConsistent 18 = .ok (.aload_n 0, 1) := dk_42 (dk_at dksX3_isConsistent_0 18 rfl rfl)
theorem dX3_isConsistent_19 : decode cX3_isConsistent 19 = .ok (.getfield 7, 3) := dk_180 0 7 (dk_at dksX3_isConsistent_0 19 rfl rfl)
theorem dX3_isConsistent_22 : decode cX3_isConsistent 22 = .ok (.iconst 5, 1) := dk_8 (dk_at dksX3_isConsistent_0 22 rfl rfl)
theorem dX3_isConsistent_23 : decode cX3_isConsistent 23 = .ok (.iaload, 1) := dk_46 (dk_at dksX3_isConsistent_0 23 rfl rfl)
theorem dX3_isConsistent_24 : decode cX3_isConsistent 24 = .ok (.iadd, 1) := dk_96 (dk_at dksX3_isConsistent_1 0 rfl rfl)
theorem dX3_isConsistent_25 : decode cX3_isConsistent 25 = .ok (.aload_n 0, 1) := dk_42 (dk_at dksX3_isConsistent_1 1 rfl rfl)
theorem dX3_isConsistent_26 : decode cX3_isConsistent 26 = .ok (.getfield 7, 3) := dk_180 0 7 (dk_at dksX3_isConsistent_1 2 rfl rfl)
theorem dX3_isConsistent_29 : decode cX3_isConsistent 29 = .ok (.iconst 1, 1) := dk_4 (dk_at dksX3_isConsistent_1 5 rfl rfl)
theorem dX3_isConsistent_30 : decode cX3_isConsistent 30 = .ok (.iaload, 1) := dk_46 (dk_at dksX3_isConsistent_1 6 rfl rfl)
theorem dX3_isConsistent_31 : decode cX3_isConsistent 31 = .ok (.aload_n 0, 1) := dk_42 (dk_at dksX3_isConsistent_1 7 rfl rfl)
theorem dX3_isConsistent_32 : decode cX3_isConsistent 32 = .ok (.invokevirtual 185, 3) := dk_182 0 185 (dk_at dksX3_isConsistent_1 8 rfl rfl)
theorem dX3_isConsistent_35 : decode cX3_isConsistent 35 = .ok (.isub, 1) := dk_100 (dk_at dksX3_isConsistent_1 11 rfl rfl)
theorem dX3_isConsistent_36 : decode cX3_isConsistent 36 = .ok (.if_icmp .ne 7, 3) := dk_160 0 7 (dk_at dksX3_isConsistent_1 12 rfl rfl)
theorem dX3_isConsistent_39 : decode cX3_isConsistent 39 = .ok (.iconst 1, 1) := dk_4 (dk_at dksX3_isConsistent_1 15 rfl rfl)
theorem dX3_isConsistent_40 : decode cX3_isConsistent 40 = .ok (.goto 4, 3) := dk_167 0 4 (dk_at dksX3_isConsistent_1 16 rfl rfl)
theorem dX3_isConsistent_43 : decode cX3_isConsistent 43 = .ok (.iconst 0, 1) := dk_3 (dk_at dksX3_isConsistent_1 19 rfl rfl)
theorem dX3_isConsistent_44 : decode cX3_isConsistent 44 = .ok (.ireturn, 1) := dk_172 (dk_at dksX3_isConsistent_1 20 rfl rfl)
def dkwX3_writePerson_5 : List UInt8 := [16, 33, 182, 0, 191, 132, 2, 1, 167, 255, 194, 42, 180, 0, 188, 172]
abbrev dktX3_writePerson_5 : List UInt8 := dkwX3_writePerson_5 ++ []
def dkwX3_writePerson_4 : List UInt8 := [182, 0, 191, 42, 42, 29, 5, 182, 0, 101, 182, 0, 194, 42, 29, 6, 182, 0, 101, 4, 160, 0, 9, 42]
abbrev dktX3_writePerson_4 : List UInt8 := dkwX3_writePerson_4 ++ dktX3_writePerson_5
def dkwX3_writePerson_3 : List UInt8 := [182, 0, 111, 62, 29, 156, 0, 6, 167, 0, 43, 42, 16, 32, 182, 0, 191, 42, 28, 184, 0, 169]
abbrev dktX3_writePerson_3 : List UInt8 := dkwX3_writePerson_3 ++ dktX3_writePerson_4
def dkwX3_writePerson_2 : List UInt8 := [182, 0, 191, 42, 42, 27, 182, 0, 88, 182, 0, 194, 3, 61, 28, 6, 162, 0, 63, 42, 27, 28]
abbrev dktX3_writePerson_2 : List UInt8 := dkwX3_writePerson_2 ++ dktX3_writePerson_3
def dkwX3_writePerson_1 : List UInt8 := [182, 0, 85, 154, 0, 9, 42, 16, 43, 182, 0, 191, 42, 27, 182, 0, 88, 155, 0, 18, 42, 16, 60]
abbrev dktX3_writePerson_1 : List UInt8 := dkwX3_writePerson_1 ++ dktX3_writePerson_2
def dkwX3_writePerson_0 : List UInt8 := [42, 27, 182, 0, 128, 153, 0, 5, 3, 172, 42, 3, 181, 0, 188, 42, 27, 182, 0, 194, 42, 27]
abbrev dktX3_writePerson_0 : List UInt8 := dkwX3_writePerson_0 ++ dktX3_writePerson_1
theorem dksX3_writePerson_0 : cX3_writePerson.data.toList.drop 0 = dktX3_writePerson_0 := by decide +kernel
theorem dksX3_writePerson_1 : cX3_writePerson.data.toList.drop 22 = dktX3_writePerson_1 := dk_seg dksX3_writePerson_0 22 rfl rfl
theorem dksX3_writePerson_2 : cX3_writePerson.data.toList.drop 45 = dktX3_writePerson_2 := dk_seg dksX3_writePerson_1 23 rfl rfl
theorem dksX3_writePerson_3 : cX3_writePerson.data.toList.drop 67 = dktX3_writePerson_3 := dk_seg dksX3_writePerson_2 22 rfl rfl
theorem dksX3_writePerson_4 : cX3_writePerson.data.toList.drop 89 = dktX3_writePerson_4 := dk_seg dksX3_writePerson_3 22 rfl rfl
theorem dksX3_writePerson_5 : cX3_writePerson.data.toList.drop 113 = dktX3_writePerson_5 := dk_seg dksX3_writePerson_4 24 rfl rfl
theorem dX3_writePerson_0 : decode cX3_writePerson 0 = .ok (.aload_n 0, 1) := dk_42 (dk_at dksX3_writePerson_0 0 rfl rfl)
theorem dX3_writePerson_1 : decode cX3_writePerson 1 = .ok (.iload_n 1, 1) := dk_27 (dk_at dksX3_writePerson_0 1 rfl rfl)
theorem dX3_writePerson_2 : decode cX3_writePerson 2 = .ok (.invokevirtual 128, 3) := dk_182 0 128 (dk_at dksX3_writePerson_0 2 rfl rfl)
theorem dX3_writePerson_5 : decode cX3_writePerson 5 = .ok (.ifCond .eq 5, 3) := dk_153 0 5 (dk_at dksX3_writePerson_0 5 rfl rfl)
theorem dX3_writePerson_8 : decode cX3_writePerson 8 = .ok (.iconst 0, 1) := dk_3 (dk_at dksX3_writePerson_0 8 rfl rfl)
theorem dX3_writePerson_9 : decode cX3_writePerson 9 = .ok (.ireturn, 1) := dk_172 (dk_at dksX3_writePerson_0 9 rfl rfl)
theorem dX3_writePerson_10 : decode cX3_writePerson 10 = .ok (.aload_n 0, 1) := dk_42 (dk_at dksX3_writePerson_0 10 rfl rfl)
theorem dX3_writePerson_11 : decode cX3_writePerson 11 = .ok (.iconst 0, 1) := dk_3 (dk_at dksX3_writePerson_0 11 rfl rfl)
theorem dX3_writePerson_12 : decode cX3_writePerson 12 = .ok (.putfield 188, 3) := dk_181 0 188 (dk_at dksX3_writePerson_0 12 rfl rfl)
theorem dX3_writePerson_15 : decode cX3_writePerson 15 = .ok (.aload_n 0, 1) := dk_42 (dk_at dksX3_writePerson_0 15 rfl rfl)
theorem dX3_writePerson_16 : decode cX3_writePerson 16 = .ok (.iload_n 1, 1) := dk_27 (dk_at dksX3_writePerson_0 16 rfl rfl)
theorem dX3_writePerson_17 : decode cX3_writePerson 17 = .ok (.invokevirtual 194, 3) := dk_182 0 194 (dk_at dksX3_writePerson_0 17 rfl rfl)
theorem dX3_writePerson_20 : decode cX3_writePerson 20 = .ok (.aload_n 0, 1) := dk_42 (dk_at dksX3_writePerson_0 20 rfl rfl)
theorem dX3_writePerson_21 : decode cX3_writePerson 21 = .ok (.iload_n 1, 1) := dk_27 (dk_at dksX3_writePerson_0 21 rfl rfl)
theorem dX3_writePerson_22 : decode cX3_writePerson 22 = .ok (.invokevirtual 85, 3) := dk_182 0 85 (dk_at dksX3_writePerson_1 0 rfl rfl)
theorem dX3_writePerson_25 : decode cX3_writePerson 25 = .ok (.ifCond .ne 9, 3) := dk_154 0 9 (dk_at dksX3_writePerson_1 3 rfl rfl)
theorem dX3_writePerson_28 : decode cX3_writePerson 28 = .ok (.aload_n 0, 1) := dk_42 (dk_at dksX3_writePerson_1 6 rfl rfl)
theorem dX3_writePerson_29 : decode cX3_writePerson 29 = .ok (.bipush 43, 2) := dk_16 43 (dk_at dksX3_writePerson_1 7 rfl rfl)
theorem dX3_writePerson_31 : decode cX3_writePerson 31 = .ok (.invokevirtual 191, 3) := dk_182 0 191 (dk_at dksX3_writePerson_1 9 rfl rfl)
theorem dX3_writePerson_34 : decode cX3_writePerson 34 = .ok (.aload_n 0, 1) := dk_42 (dk_at dksX3_writePerson_1 12 rfl rfl)
theorem dX3_writePerson_35 : decode cX3_writePerson 35 = .ok (.iload_n 1, 1) := dk_27 (dk_at dksX3_writePerson_1 13 rfl rfl)
theorem dX3_writePerson_36 : decode cX3_writePerson 36 = .ok (.invokevirtual 88, 3) := dk_182 0 88 (dk_at dksX3_writePerson_1 14 rfl rfl)
theorem dX3_writePerson_39 : decode cX3_writePerson 39 = .ok (.ifCond .lt 18, 3) := dk_155 0 18 (dk_at dksX3_writePerson_1 17 rfl rfl)
theorem dX3_writePerson_42 : decode cX3_writePerson 42 = .ok (.aload_n 0, 1) := dk_42 (dk_at dksX3_writePerson_1 20 rfl rfl)
theorem dX3_writePerson_43 : decode cX3_writePerson 43 = .ok (.bipush 60, 2) := dk_16 60 (dk_at dksX3_writePerson_1 21 rfl rfl)
theorem dX3_writePerson_45 : decode cX3_writePerson 45 = .ok (.invokevirtual 191, 3) := dk_182 0 191 (dk_at dksX3_writePerson_2 0 rfl rfl)
theorem dX3_writePerson_48 : decode cX3_writePerson 48 = .ok (.aload_n 0, 1) := dk_42 (dk_at dksX3_writePerson_2 3 rfl rfl)
theorem dX3_writePerson_49 : decode cX3_writePerson 49 = .ok (.aload_n 0, 1) := dk_42 (dk_at dksX3_writePerson_2 4 rfl rfl)
theorem dX3_writePerson_50 : decode cX3_writePerson 50 = .ok (.iload_n 1, 1) := dk_27 (dk_at dksX3_writePerson_2 5 rfl rfl)
theorem dX3_writePerson_51 : decode cX3_writePerson 51 = .ok (.invokevirtual 88, 3) := dk_182 0 88 (dk_at dksX3_writePerson_2 6 rfl rfl)
theorem dX3_writePerson_54 : decode cX3_writePerson 54 = .ok (.invokevirtual 194, 3) := dk_182 0 194 (dk_at dksX3_writePerson_2 9 rfl rfl)
theorem dX3_writePerson_57 : decode cX3_writePerson 57 = .ok (.iconst 0, 1) := dk_3 (dk_at dksX3_writePerson_2 12 rfl rfl)
theorem dX3_writePerson_58 : decode cX3_writePerson 58 = .ok (.istore_n 2, 1) := dk_61 (dk_at dksX3_writePerson_2 13 rfl rfl)
theorem dX3_writePerson_59 : decode cX3_writePerson 59 = .ok (.iload_n 2, 1) := dk_28 (dk_at dksX3_writePerson_2 14 rfl rfl)
theorem dX3_writePerson_60 : decode cX3_writePerson 60 = .ok (.iconst 3, 1) := dk_6 (dk_at dksX3_writePerson_2 15 rfl rfl)
theorem dX3_writePerson_61 : decode cX3_writePerson 61 = .ok (.if_icmp .ge 63, 3) := dk_162 0 63 (dk_at dksX3_writePerson_2 16 rfl rfl)
theorem dX3_writePerson_64 : decode cX3_writePerson 64 = .ok (.aload_n 0, 1) := dk_42 (dk_at dksX3_writePerson_2 19 rfl rfl)
theorem dX3_writePerson_65 : decode cX3_writePerson 65 = .ok (.iload_n 1, 1) := dk_27 (dk_at dksX3_writePerson_2 20 rfl rfl)
theorem dX3_writePerson_66 : decode cX3_writePerson 66 = .ok (.iload_n 2, 1) := dk_28 (dk_at dksX3_writePerson_2 21 rfl rfl)
theorem dX3_writePerson_67 : decode cX3_writePerson 67 = .ok (.invokevirtual 111, 3) := dk_182 0 111 (dk_at dksX3_writePerson_3 0 rfl rfl)
theorem dX3_writePerson_70 : decode cX3_writePerson 70 = .ok (.istore_n 3, 1) := dk_62 (dk_at dksX3_writePerson_3 3 rfl rfl)
theorem dX3_writePerson_71 : decode cX3_writePerson 71 = .ok (.iload_n 3, 1) := dk_29 (dk_at dksX3_writePerson_3 4 rfl rfl)
theorem dX3_writePerson_72 : decode cX3_writePerson 72 = .ok (.ifCond .ge 6, 3) := dk_156 0 6 (dk_at dksX3_writePerson_3 5 rfl rfl)
theorem dX3_writePerson_75 : decode cX3_writePerson 75 = .ok (.goto 43, 3) := dk_167 0 43 (dk_at dksX3_writePerson_3 8 rfl rfl)
theorem dX3_writePerson_78 : decode cX3_writePerson 78 = .ok (.aload_n 0, 1) := dk_42 (dk_at dksX3_writePerson_3 11 rfl rfl)
theorem dX3_writePerson_79 : decode cX3_writePerson 79 = .ok (.bipush 32, 2) := dk_16 32 (dk_at dksX3_writePerson_3 12 rfl rfl)
theorem dX3_writePerson_81 : decode cX3_writePerson 81 = .ok (.invokevirtual 191, 3) := dk_182 0 191 (dk_at dksX3_writePerson_3 14 rfl rfl)
theorem dX3_writePerson_84 : decode cX3_writePerson 84 = .ok (.aload_n 0, 1) := dk_42 (dk_at dksX3_writePerson_3 17 rfl rfl)
theorem dX3_writePerson_85 : decode cX3_writePerson 85 = .ok (.iload_n 2, 1) := dk_28 (dk_at dksX3_writePerson_3 18 rfl rfl)
theorem dX3_writePerson_86 : decode cX3_writePerson 86 = .ok (.invokestatic 169, 3) := dk_184 0 169 (dk_at dksX3_writePerson_3 19 rfl rfl)
theorem dX3_writePerson_89 : decode cX3_writePerson 89 = .ok (.invokevirtual 191, 3) := dk_182 0 191 (dk_at dksX3_writePerson_4 0 rfl rfl)
theorem dX3_writePerson_92 : decode cX3_writePerson 92 = .ok (.aload_n 0, 1) := dk_42 (dk_at dksX3_writePerson_4 3 rfl rfl)
theorem dX3_writePerson_93 : decode cX3_writePerson 93 = .ok (.aload_n 0, 1) := dk_42 (dk_at dksX3_writePerson_4 4 rfl rfl)
theorem dX3_writePerson_94 : decode cX3_writePerson 94 = .ok (.iload_n 3, 1) := dk_29 (dk_at dksX3_writePerson_4 5 rfl rfl)
theorem dX3_writePerson_95 : decode cX3_writePerson 95 = .ok (.iconst 2, 1) := dk_5 (dk_at dksX3_writePerson_4 6 rfl rfl)
theorem dX3_writePerson_96 : decode cX3_writePerson 96 = .ok (.invokevirtual 101, 3) := dk_182 0 101 (dk_at dksX3_writePerson_4 7 rfl rfl)
theorem dX3_writePerson_99 : decode cX3_writePerson 99 = .ok (.invokevirtual 194, 3) := dk_182 0 194 (dk_at dksX3_writePerson_4 10 rfl rfl)
theorem dX3_writePerson_102 : decode cX3_writePerson 102 = .ok (.aload_n 0, 1) := dk_42 (dk_at dksX3_writePerson_4 13 rfl rfl)
theorem dX3_writePerson_103 : decode cX3_writePerson 103 = .ok (.iload_n 3, 1) := dk_29 (dk_at dksX3_writePerson_4 14 rfl rfl)
theorem dX3_writePerson_104 : decode cX3_writePerson 104 = .ok (.iconst 3, 1) := dk_6 (dk_at dksX3_writePerson_4 15 rfl rfl)
theorem dX3_writePerson_105 : decode cX3_writePerson 105 = .ok (.invokevirtual 101, 3) := dk_182 0 101 (dk_at dksX3_writePerson_4 16 rfl rfl)
theorem dX3_writePerson_108 : decode cX3_writePerson 108 = .ok (.iconst 1, 1) := dk_4 (dk_at dksX3_writePerson_4 19 rfl rfl)
theorem dX3_writePerson_109 : decode cX3_writePerson 109 = .ok (.if_icmp .ne 9, 3) := dk_160 0 9 (dk_at dksX3_writePerson_4 20 rfl rfl)
theorem dX3_writePerson_112 : decode cX3_writePerson 112 = .ok (.aload_n 0, 1) := dk_42 (dk_at dksX3_writePerson_4 23 rfl rfl)
theorem dX3_writePerson_113 : decode cX3_writePerson 113 = .ok (.bipush 33, 2) := dk_16 33 (dk_at dksX3_writePerson_5 0 rfl rfl)
theorem dX3_writePerson_115 : decode cX3_writePerson 115 = .ok (.invokevirtual 191, 3) := dk_182 0 191 (dk_at dksX3_writePerson_5 2 rfl rfl)
theorem dX3_writePerson_118 : decode cX3_writePerson 118 = .ok (.iinc 2 1, 3) := dk_132 2 1 (dk_at dksX3_writePerson_5 5 rfl rfl)
theorem dX3_writePerson_121 : decode cX3_writePerson 121 = .ok (.goto (-62), 3) := dk_167 255 194 (dk_at dksX3_writePerson_5 8 rfl rfl)
theorem dX3_writePerson_124 : decode cX3_writePerson 124 = .ok (.aload_n 0, 1) := dk_42 (dk_at dksX3_writePerson_5 11 rfl rfl)
theorem dX3_writePerson_125 : decode cX3_writePerson 125 = .ok (.getfield 188, 3) := dk_180 0 188 (dk_at dksX3_writePerson_5 12 rfl rfl)
theorem dX3_writePerson_128 : decode cX3_writePerson 128 = .ok (.ireturn, 1) := dk_172 (dk_at dksX3_writePerson_5 15 rfl rfl)
def dkwX3_writesNumber_1 : List UInt8 := [96, 182, 0, 191, 177]
abbrev dktX3_writesNumber_1 : List UInt8 := dkwX3_writesNumber_1 ++ []
def dkwX3_writesNumber_0 : List UInt8 := [27, 16, 9, 164, 0, 14, 42, 16, 48, 27, 16, 10, 108, 96, 182, 0, 191, 42, 16, 48, 27, 16, 10, 112]
abbrev dktX3_writesNumber_0 : List UInt8 := dkwX3_writesNumber_0 ++ dktX3_writesNumber_1
theorem dksX3_writesNumber_0 : cX3_writesNumber.data.toList.drop 0 = dktX3_writesNumber_0 := by decide +kernel
theorem dksX3_writesNumber_1 : cX3_writesNumber.data.toList.drop 24 = dktX3_writesNumber_1 := dk_seg dksX3_writesNumber_0 24 rfl rfl
theorem dX3_writesNumber_0 : decode cX3_writesNumber 0 = .ok (.iload_n 1, 1) := dk_27 (dk_at dksX3_writesNumber_0 0 rfl rfl)
theorem dX3_writesNumber_1 : decode cX3_writesNumber 1 = .ok (.bipush 9, 2) := dk_16 9 (dk_at dksX3_writesNumber_0 1 rfl rfl)
theorem dX3_writesNumber_3 : decode cX3_writesNumber 3 = .ok (.if_icmp .le 14, 3) := dk_164 0 14 (dk_at dksX3_writesNumber_0 3 rfl rfl)
theorem dX3_writesNumber_6 : decode cX3_writesNumber 6 = .ok (.aload_n 0, 1) := dk_42 (dk_at dksX3_writesNumber_0 6 rfl rfl)
theorem dX3_writesNumber_7 : decode cX3_writesNumber 7 = .ok (.bipush 48, 2) := dk_16 48 (dk_at dksX3_writesNumber_0 7 rfl rfl)
theorem dX3_writesNumber_9 : decode cX3_writesNumber 9 = .ok (.iload_n 1, 1) := dk_27 (dk_at dksX3_writesNumber_0 9 rfl rfl)
theorem dX3_writesNumber_10 : decode cX3_writesNumber 10 = .ok (.bipush 10, 2) := dk_16 10 (dk_at dksX3_writesNumber_0 10 rfl rfl)
theorem dX3_writesNumber_12 : decode cX3_writesNumber 12 = .ok (.idiv, 1) := dk_108 (dk_at dksX3_writesNumber_0 12 rfl rfl)
theorem dX3_writesNumber_13 : decode cX3_writesNumber 13 = .ok (.iadd, 1) := dk_96 (dk_at dksX3_writesNumber_0 13 rfl rfl)
theorem dX3_writesNumber_14 : decode cX3_writesNumber 14 = .ok (.invokevirtual 191, 3) := dk_182 0 191 (dk_at dksX3_writesNumber_0 14 rfl rfl)
theorem dX3_writesNumber_17 : decode cX3_writesNumber 17 = .ok (.aload_n 0, 1) := dk_42 (dk_at dksX3_writesNumber_0 17 rfl rfl)
theorem dX3_writesNumber_18 : decode cX3_writesNumber 18 = .ok (.bipush 48, 2) := dk_16 48 (dk_at dksX3_writesNumber_0 18 rfl rfl)
theorem dX3_writesNumber_20 : decode cX3_writesNumber 20 = .ok (.iload_n 1, 1) := dk_27 (dk_at dksX3_writesNumber_0 20 rfl rfl)
theorem dX3_writesNumber_21 : decode cX3_writesNumber 21 = .ok (.bipush 10, 2) := dk_16 10 (dk_at dksX3_writesNumber_0 21 rfl rfl)
theorem dX3_writesNumber_23 : decode cX3_writesNumber 23 = .ok (.irem, 1) := dk_112 (dk_at dksX3_writesNumber_0 23 rfl rfl)
theorem dX3_writesNumber_24 : decode cX3_writesNumber 24 = .ok (.iadd, 1) := dk_96 (dk_at dksX3_writesNumber_1 0 rfl rfl)
theorem dX3_writesNumber_25 : decode cX3_writesNumber 25 = .ok (.invokevirtual 191, 3) := dk_182 0 191 (dk_at dksX3_writesNumber_1 1 rfl rfl)
theorem dX3_writesNumber_28 : decode cX3_writesNumber 28 = .ok (.return_, 1) := dk_177 (dk_at dksX3_writesNumber_1 4 rfl rfl)
def dkwX3_writes_0 : List UInt8 := [42, 180, 0, 29, 42, 180, 0, 188, 27, 146, 85, 42, 89, 180, 0, 188, 4, 96, 181, 0, 188, 177]
abbrev dktX3_writes_0 : List UInt8 := dkwX3_writes_0 ++ []
theorem dksX3_writes_0 : cX3_writes.data.toList.drop 0 = dktX3_writes_0 := by decide +kernel
theorem dX3_writes_0 : decode cX3_writes 0 = .ok (.aload_n 0, 1) := dk_42 (dk_at dksX3_writes_0 0 rfl rfl)
theorem dX3_writes_1 : decode cX3_writes 1 = .ok (.getfield 29, 3) := dk_180 0 29 (dk_at dksX3_writes_0 1 rfl rfl)
theorem dX3_writes_4 : decode cX3_writes 4 = .ok (.aload_n 0, 1) := dk_42 (dk_at dksX3_writes_0 4 rfl rfl)
theorem dX3_writes_5 : decode cX3_writes 5 = .ok (.getfield 188, 3) := dk_180 0 188 (dk_at dksX3_writes_0 5 rfl rfl)
theorem dX3_writes_8 : decode cX3_writes 8 = .ok (.iload_n 1, 1) := dk_27 (dk_at dksX3_writes_0 8 rfl rfl)
theorem dX3_writes_9 : decode cX3_writes 9 = .ok (.i2c, 1) := dk_146 (dk_at dksX3_writes_0 9 rfl rfl)
theorem dX3_writes_10 : decode cX3_writes 10 = .ok (.castore, 1) := dk_85 (dk_at dksX3_writes_0 10 rfl rfl)
theorem dX3_writes_11 : decode cX3_writes 11 = .ok (.aload_n 0, 1) := dk_42 (dk_at dksX3_writes_0 11 rfl rfl)
theorem dX3_writes_12 : decode cX3_writes 12 = .ok (.dup, 1) := dk_89 (dk_at dksX3_writes_0 12 rfl rfl)
theorem dX3_writes_13 : decode cX3_writes 13 = .ok (.getfield 188, 3) := dk_180 0 188 (dk_at dksX3_writes_0 13 rfl rfl)
theorem dX3_writes_16 : decode cX3_writes 16 = .ok (.iconst 1, 1) := dk_4 (dk_at dksX3_writes_0 16 rfl rfl)
theorem dX3_writes_17 : decode cX3_writes 17 = .ok (.iadd, 1) := dk_96 (dk_at dksX3_writes_0 17 rfl rfl)
theorem dX3_writes_18 : decode cX3_writes 18 = .ok (.putfield 188, 3) := dk_181 0 188 (dk_at dksX3_writes_0 18 rfl rfl)
theorem dX3_writes_21 : decode cX3_writes 21 = .ok (.return_, 1) := dk_177 (dk_at dksX3_writes_0 21 rfl rfl)
def dkwX3_writeLine_2 : List UInt8 := [61, 167, 255, 235, 42, 180, 0, 188, 172]
abbrev dktX3_writeLine_2 : List UInt8 := dkwX3_writeLine_2 ++ []
def dkwX3_writeLine_1 : List UInt8 := [182, 0, 88, 61, 28, 155, 0, 23, 42, 16, 60, 182, 0, 191, 42, 28, 182, 0, 194, 42, 28, 182, 0, 88]
abbrev dktX3_writeLine_1 : List UInt8 := dkwX3_writeLine_1 ++ dktX3_writeLine_2
def dkwX3_writeLine_0 : List UInt8 := [42, 27, 182, 0, 128, 153, 0, 5, 3, 172, 42, 3, 181, 0, 188, 42, 27, 182, 0, 194, 42, 27]
abbrev dktX3_writeLine_0 : List UInt8 := dkwX3_writeLine_0 ++ dktX3_writeLine_1
theorem dksX3_writeLine_0 : cX3_writeLine.data.toList.drop 0 = dktX3_writeLine_0 := by decide +kernel
theorem dksX3_writeLine_1 : cX3_writeLine.data.toList.drop 22 = dktX3_writeLine_1 := dk_seg dksX3_writeLine_0 22 rfl rfl
theorem dksX3_writeLine_2 : cX3_writeLine.data.toList.drop 46 = dktX3_writeLine_2 := dk_seg dksX3_writeLine_1 24 rfl rfl
theorem dX3_writeLine_0 : decode cX3_writeLine 0 = .ok (.aload_n 0, 1) := dk_42 (dk_at dksX3_writeLine_0 0 rfl rfl)
theorem dX3_writeLine_1 : decode cX3_writeLine 1 = .ok (.iload_n 1, 1) := dk_27 (dk_at dksX3_writeLine_0 1 rfl rfl)
theorem dX3_writeLine_2 : decode cX3_writeLine 2 = .ok (.invokevirtual 128, 3) := dk_182 0 128 (dk_at dksX3_writeLine_0 2 rfl rfl)
theorem dX3_writeLine_5 : decode cX3_writeLine 5 = .ok (.ifCond .eq 5, 3) := dk_153 0 5 (dk_at dksX3_writeLine_0 5 rfl rfl)
theorem dX3_writeLine_8 : decode cX3_writeLine 8 = .ok (.iconst 0, 1) := dk_3 (dk_at dksX3_writeLine_0 8 rfl rfl)
theorem dX3_writeLine_9 : decode cX3_writeLine 9 = .ok (.ireturn, 1) := dk_172 (dk_at dksX3_writeLine_0 9 rfl rfl)
theorem dX3_writeLine_10 : decode cX3_writeLine 10 = .ok (.aload_n 0, 1) := dk_42 (dk_at dksX3_writeLine_0 10 rfl rfl)
theorem dX3_writeLine_11 : decode cX3_writeLine 11 = .ok (.iconst 0, 1) := dk_3 (dk_at dksX3_writeLine_0 11 rfl rfl)
theorem dX3_writeLine_12 : decode cX3_writeLine 12 = .ok (.putfield 188, 3) := dk_181 0 188 (dk_at dksX3_writeLine_0 12 rfl rfl)
theorem dX3_writeLine_15 : decode cX3_writeLine 15 = .ok (.aload_n 0, 1) := dk_42 (dk_at dksX3_writeLine_0 15 rfl rfl)
theorem dX3_writeLine_16 : decode cX3_writeLine 16 = .ok (.iload_n 1, 1) := dk_27 (dk_at dksX3_writeLine_0 16 rfl rfl)
theorem dX3_writeLine_17 : decode cX3_writeLine 17 = .ok (.invokevirtual 194, 3) := dk_182 0 194 (dk_at dksX3_writeLine_0 17 rfl rfl)
theorem dX3_writeLine_20 : decode cX3_writeLine 20 = .ok (.aload_n 0, 1) := dk_42 (dk_at dksX3_writeLine_0 20 rfl rfl)
theorem dX3_writeLine_21 : decode cX3_writeLine 21 = .ok (.iload_n 1, 1) := dk_27 (dk_at dksX3_writeLine_0 21 rfl rfl)
theorem dX3_writeLine_22 : decode cX3_writeLine 22 = .ok (.invokevirtual 88, 3) := dk_182 0 88 (dk_at dksX3_writeLine_1 0 rfl rfl)
theorem dX3_writeLine_25 : decode cX3_writeLine 25 = .ok (.istore_n 2, 1) := dk_61 (dk_at dksX3_writeLine_1 3 rfl rfl)
theorem dX3_writeLine_26 : decode cX3_writeLine 26 = .ok (.iload_n 2, 1) := dk_28 (dk_at dksX3_writeLine_1 4 rfl rfl)
theorem dX3_writeLine_27 : decode cX3_writeLine 27 = .ok (.ifCond .lt 23, 3) := dk_155 0 23 (dk_at dksX3_writeLine_1 5 rfl rfl)
theorem dX3_writeLine_30 : decode cX3_writeLine 30 = .ok (.aload_n 0, 1) := dk_42 (dk_at dksX3_writeLine_1 8 rfl rfl)
theorem dX3_writeLine_31 : decode cX3_writeLine 31 = .ok (.bipush 60, 2) := dk_16 60 (dk_at dksX3_writeLine_1 9 rfl rfl)
theorem dX3_writeLine_33 : decode cX3_writeLine 33 = .ok (.invokevirtual 191, 3) := dk_182 0 191 (dk_at dksX3_writeLine_1 11 rfl rfl)
theorem dX3_writeLine_36 : decode cX3_writeLine 36 = .ok (.aload_n 0, 1) := dk_42 (dk_at dksX3_writeLine_1 14 rfl rfl)
theorem dX3_writeLine_37 : decode cX3_writeLine 37 = .ok (.iload_n 2, 1) := dk_28 (dk_at dksX3_writeLine_1 15 rfl rfl)
theorem dX3_writeLine_38 : decode cX3_writeLine 38 = .ok (.invokevirtual 194, 3) := dk_182 0 194 (dk_at dksX3_writeLine_1 16 rfl rfl)
theorem dX3_writeLine_41 : decode cX3_writeLine 41 = .ok (.aload_n 0, 1) := dk_42 (dk_at dksX3_writeLine_1 19 rfl rfl)
theorem dX3_writeLine_42 : decode cX3_writeLine 42 = .ok (.iload_n 2, 1) := dk_28 (dk_at dksX3_writeLine_1 20 rfl rfl)
theorem dX3_writeLine_43 : decode cX3_writeLine 43 = .ok (.invokevirtual 88, 3) := dk_182 0 88 (dk_at dksX3_writeLine_1 21 rfl rfl)
theorem dX3_writeLine_46 : decode cX3_writeLine 46 = .ok (.istore_n 2, 1) := dk_61 (dk_at dksX3_writeLine_2 0 rfl rfl)
theorem dX3_writeLine_47 : decode cX3_writeLine 47 = .ok (.goto (-21), 3) := dk_167 255 235 (dk_at dksX3_writeLine_2 1 rfl rfl)
theorem dX3_writeLine_50 : decode cX3_writeLine 50 = .ok (.aload_n 0, 1) := dk_42 (dk_at dksX3_writeLine_2 4 rfl rfl)
theorem dX3_writeLine_51 : decode cX3_writeLine 51 = .ok (.getfield 188, 3) := dk_180 0 188 (dk_at dksX3_writeLine_2 5 rfl rfl)
theorem dX3_writeLine_54 : decode cX3_writeLine 54 = .ok (.ireturn, 1) := dk_172 (dk_at dksX3_writeLine_2 8 rfl rfl)
def dkwX3_outputAt_1 : List UInt8 := [153, 0, 8, 16, 32, 167, 0, 9, 42, 180, 0, 29, 27, 52, 172]
abbrev dktX3_outputAt_1 : List UInt8 := dkwX3_outputAt_1 ++ []
def dkwX3_outputAt_0 : List UInt8 := [42, 27, 3, 42, 180, 0, 188, 4, 100, 184, 0, 62, 153, 0, 7, 3, 167, 0, 4, 4, 182, 0, 82]
abbrev dktX3_outputAt_0 : List UInt8 := dkwX3_outputAt_0 ++ dktX3_outputAt_1
theorem dksX3_outputAt_0 : cX3_outputAt.data.toList.drop 0 = dktX3_outputAt_0 := by decide +kernel
theorem dksX3_outputAt_1 : cX3_outputAt.data.toList.drop 23 = dktX3_outputAt_1 := dk_seg dksX3_outputAt_0 23 rfl rfl
theorem dX3_outputAt_0 : decode cX3_outputAt 0 = .ok (.aload_n 0, 1) := dk_42 (dk_at dksX3_outputAt_0 0 rfl rfl)
theorem dX3_outputAt_1 : decode cX3_outputAt 1 = .ok (.iload_n 1, 1) := dk_27 (dk_at dksX3_outputAt_0 1 rfl rfl)
theorem dX3_outputAt_2 : decode cX3_outputAt 2 = .ok (.iconst 0, 1) := dk_3 (dk_at dksX3_outputAt_0 2 rfl rfl)
theorem dX3_outputAt_3 : decode cX3_outputAt 3 = .ok (.aload_n 0, 1) := dk_42 (dk_at dksX3_outputAt_0 3 rfl rfl)
theorem dX3_outputAt_4 : decode cX3_outputAt 4 = .ok (.getfield 188, 3) := dk_180 0 188 (dk_at dksX3_outputAt_0 4 rfl rfl)
theorem dX3_outputAt_7 : decode cX3_outputAt 7 = .ok (.iconst 1, 1) := dk_4 (dk_at dksX3_outputAt_0 7 rfl rfl)
theorem dX3_outputAt_8 : decode cX3_outputAt 8 = .ok (.isub, 1) := dk_100 (dk_at dksX3_outputAt_0 8 rfl rfl)
theorem dX3_outputAt_9 : decode cX3_outputAt 9 = .ok (.invokestatic 62, 3) := dk_184 0 62 (dk_at dksX3_outputAt_0 9 rfl rfl)
theorem dX3_outputAt_12 : decode cX3_outputAt 12 = .ok (.ifCond .eq 7, 3) := dk_153 0 7 (dk_at dksX3_outputAt_0 12 rfl rfl)
theorem dX3_outputAt_15 : decode cX3_outputAt 15 = .ok (.iconst 0, 1) := dk_3 (dk_at dksX3_outputAt_0 15 rfl rfl)
theorem dX3_outputAt_16 : decode cX3_outputAt 16 = .ok (.goto 4, 3) := dk_167 0 4 (dk_at dksX3_outputAt_0 16 rfl rfl)
theorem dX3_outputAt_19 : decode cX3_outputAt 19 = .ok (.iconst 1, 1) := dk_4 (dk_at dksX3_outputAt_0 19 rfl rfl)
theorem dX3_outputAt_20 : decode cX3_outputAt 20 = .ok (.invokevirtual 82, 3) := dk_182 0 82 (dk_at dksX3_outputAt_0 20 rfl rfl)
theorem dX3_outputAt_23 : decode cX3_outputAt 23 = .ok (.ifCond .eq 8, 3) := dk_153 0 8 (dk_at dksX3_outputAt_1 0 rfl rfl)
theorem dX3_outputAt_26 : decode cX3_outputAt 26 = .ok (.bipush 32, 2) := dk_16 32 (dk_at dksX3_outputAt_1 3 rfl rfl)
theorem dX3_outputAt_28 : decode cX3_outputAt 28 = .ok (.goto 9, 3) := dk_167 0 9 (dk_at dksX3_outputAt_1 5 rfl rfl)
theorem dX3_outputAt_31 : decode cX3_outputAt 31 = .ok (.aload_n 0, 1) := dk_42 (dk_at dksX3_outputAt_1 8 rfl rfl)
theorem dX3_outputAt_32 : decode cX3_outputAt 32 = .ok (.getfield 29, 3) := dk_180 0 29 (dk_at dksX3_outputAt_1 9 rfl rfl)
theorem dX3_outputAt_35 : decode cX3_outputAt 35 = .ok (.iload_n 1, 1) := dk_27 (dk_at dksX3_outputAt_1 12 rfl rfl)
theorem dX3_outputAt_36 : decode cX3_outputAt 36 = .ok (.caload, 1) := dk_52 (dk_at dksX3_outputAt_1 13 rfl rfl)
theorem dX3_outputAt_37 : decode cX3_outputAt 37 = .ok (.ireturn, 1) := dk_172 (dk_at dksX3_outputAt_1 14 rfl rfl)
def dkwX3_appendInput_2 : List UInt8 := [27, 79, 42, 89, 180, 0, 197, 4, 96, 181, 0, 197, 42, 180, 0, 197, 172]
abbrev dktX3_appendInput_2 : List UInt8 := dkwX3_appendInput_2 ++ []
def dkwX3_appendInput_1 : List UInt8 := [160, 0, 7, 5, 167, 0, 4, 3, 182, 0, 82, 153, 0, 5, 3, 172, 42, 180, 0, 22, 42, 180, 0, 197]
abbrev dktX3_appendInput_1 : List UInt8 := dkwX3_appendInput_1 ++ dktX3_appendInput_2
def dkwX3_appendInput_0 : List UInt8 := [42, 27, 16, 32, 16, 126, 184, 0, 62, 154, 0, 7, 4, 167, 0, 17, 42, 180, 0, 197, 16, 60]
abbrev dktX3_appendInput_0 : List UInt8 := dkwX3_appendInput_0 ++ dktX3_appendInput_1
theorem dksX3_appendInput_0 : cX3_appendInput.data.toList.drop 0 = dktX3_appendInput_0 := by decide +kernel
theorem dksX3_appendInput_1 : cX3_appendInput.data.toList.drop 22 = dktX3_appendInput_1 := dk_seg dksX3_appendInput_0 22 rfl rfl
theorem dksX3_appendInput_2 : cX3_appendInput.data.toList.drop 46 = dktX3_appendInput_2 := dk_seg dksX3_appendInput_1 24 rfl rfl
theorem dX3_appendInput_0 : decode cX3_appendInput 0 = .ok (.aload_n 0, 1) := dk_42 (dk_at dksX3_appendInput_0 0 rfl rfl)
theorem dX3_appendInput_1 : decode cX3_appendInput 1 = .ok (.iload_n 1, 1) := dk_27 (dk_at dksX3_appendInput_0 1 rfl rfl)
theorem dX3_appendInput_2 : decode cX3_appendInput 2 = .ok (.bipush 32, 2) := dk_16 32 (dk_at dksX3_appendInput_0 2 rfl rfl)
theorem dX3_appendInput_4 : decode cX3_appendInput 4 = .ok (.bipush 126, 2) := dk_16 126 (dk_at dksX3_appendInput_0 4 rfl rfl)
theorem dX3_appendInput_6 : decode cX3_appendInput 6 = .ok (.invokestatic 62, 3) := dk_184 0 62 (dk_at dksX3_appendInput_0 6 rfl rfl)
theorem dX3_appendInput_9 : decode cX3_appendInput 9 = .ok (.ifCond .ne 7, 3) := dk_154 0 7 (dk_at dksX3_appendInput_0 9 rfl rfl)
theorem dX3_appendInput_12 : decode cX3_appendInput 12 = .ok (.iconst 1, 1) := dk_4 (dk_at dksX3_appendInput_0 12 rfl rfl)
theorem dX3_appendInput_13 : decode cX3_appendInput 13 = .ok (.goto 17, 3) := dk_167 0 17 (dk_at dksX3_appendInput_0 13 rfl rfl)
theorem dX3_appendInput_16 : decode cX3_appendInput 16 = .ok (.aload_n 0, 1) := dk_42 (dk_at dksX3_appendInput_0 16 rfl rfl)
theorem dX3_appendInput_17 : decode cX3_appendInput 17 = .ok (.getfield 197, 3) := dk_180 0 197 (dk_at dksX3_appendInput_0 17 rfl rfl)
theorem dX3_appendInput_20 : decode cX3_appendInput 20 = .ok (.bipush 60, 2) := dk_16 60 (dk_at dksX3_appendInput_0 20 rfl rfl)
theorem dX3_appendInput_22 : decode cX3_appendInput 22 = .ok (.if_icmp .ne 7, 3) := dk_160 0 7 (dk_at dksX3_appendInput_1 0 rfl rfl)
theorem dX3_appendInput_25 : decode cX3_appendInput 25 = .ok (.iconst 2, 1) := dk_5 (dk_at dksX3_appendInput_1 3 rfl rfl)
theorem dX3_appendInput_26 : decode cX3_appendInput 26 = .ok (.goto 4, 3) := dk_167 0 4 (dk_at dksX3_appendInput_1 4 rfl rfl)
theorem dX3_appendInput_29 : decode cX3_appendInput 29 = .ok (.iconst 0, 1) := dk_3 (dk_at dksX3_appendInput_1 7 rfl rfl)
theorem dX3_appendInput_30 : decode cX3_appendInput 30 = .ok (.invokevirtual 82, 3) := dk_182 0 82 (dk_at dksX3_appendInput_1 8 rfl rfl)
theorem dX3_appendInput_33 : decode cX3_appendInput 33 = .ok (.ifCond .eq 5, 3) := dk_153 0 5 (dk_at dksX3_appendInput_1 11 rfl rfl)
theorem dX3_appendInput_36 : decode cX3_appendInput 36 = .ok (.iconst 0, 1) := dk_3 (dk_at dksX3_appendInput_1 14 rfl rfl)
theorem dX3_appendInput_37 : decode cX3_appendInput 37 = .ok (.ireturn, 1) := dk_172 (dk_at dksX3_appendInput_1 15 rfl rfl)
theorem dX3_appendInput_38 : decode cX3_appendInput 38 = .ok (.aload_n 0, 1) := dk_42 (dk_at dksX3_appendInput_1 16 rfl rfl)
theorem dX3_appendInput_39 : decode cX3_appendInput 39 = .ok (.getfield 22, 3) := dk_180 0 22 (dk_at dksX3_appendInput_1 17 rfl rfl)
theorem dX3_appendInput_42 : decode cX3_appendInput 42 = .ok (.aload_n 0, 1) := dk_42 (dk_at dksX3_appendInput_1 20 rfl rfl)
theorem dX3_appendInput_43 : decode cX3_appendInput 43 = .ok (.getfield 197, 3) := dk_180 0 197 (dk_at dksX3_appendInput_1 21 rfl rfl)
theorem dX3_appendInput_46 : decode cX3_appendInput 46 = .ok (.iload_n 1, 1) := dk_27 (dk_at dksX3_appendInput_2 0 rfl rfl)
theorem dX3_appendInput_47 : decode cX3_appendInput 47 = .ok (.iastore, 1) := dk_79 (dk_at dksX3_appendInput_2 1 rfl rfl)
theorem dX3_appendInput_48 : decode cX3_appendInput 48 = .ok (.aload_n 0, 1) := dk_42 (dk_at dksX3_appendInput_2 2 rfl rfl)
theorem dX3_appendInput_49 : decode cX3_appendInput 49 = .ok (.dup, 1) := dk_89 (dk_at dksX3_appendInput_2 3 rfl rfl)
theorem dX3_appendInput_50 : decode cX3_appendInput 50 = .ok (.getfield 197, 3) := dk_180 0 197 (dk_at dksX3_appendInput_2 4 rfl rfl)
theorem dX3_appendInput_53 : decode cX3_appendInput 53 = .ok (.iconst 1, 1) := dk_4 (dk_at dksX3_appendInput_2 7 rfl rfl)
theorem dX3_appendInput_54 : decode cX3_appendInput 54 = .ok (.iadd, 1) := dk_96 (dk_at dksX3_appendInput_2 8 rfl rfl)
theorem dX3_appendInput_55 : decode cX3_appendInput 55 = .ok (.putfield 197, 3) := dk_181 0 197 (dk_at dksX3_appendInput_2 9 rfl rfl)
theorem dX3_appendInput_58 : decode cX3_appendInput 58 = .ok (.aload_n 0, 1) := dk_42 (dk_at dksX3_appendInput_2 12 rfl rfl)
theorem dX3_appendInput_59 : decode cX3_appendInput 59 = .ok (.getfield 197, 3) := dk_180 0 197 (dk_at dksX3_appendInput_2 13 rfl rfl)
theorem dX3_appendInput_62 : decode cX3_appendInput 62 = .ok (.ireturn, 1) := dk_172 (dk_at dksX3_appendInput_2 16 rfl rfl)
def dkwX3_execute_7 : List UInt8 := [180, 0, 209, 172]
abbrev dktX3_execute_7 : List UInt8 := dkwX3_execute_7 ++ []
def dkwX3_execute_6 : List UInt8 := [181, 0, 36, 29, 158, 0, 7, 3, 167, 0, 4, 29, 172, 42, 42, 180, 0, 19, 182, 0, 74, 42]
abbrev dktX3_execute_6 : List UInt8 := dkwX3_execute_6 ++ dktX3_execute_7
def dkwX3_execute_5 : List UInt8 := [180, 0, 7, 3, 184, 0, 58, 42, 180, 0, 39, 153, 0, 9, 42, 28, 182, 1, 3, 172, 42, 5]
abbrev dktX3_execute_5 : List UInt8 := dkwX3_execute_5 ++ dktX3_execute_6
def dkwX3_execute_4 : List UInt8 := [132, 2, 1, 167, 255, 223, 42, 3, 181, 0, 52, 42, 180, 0, 36, 158, 0, 44, 42, 180, 0, 19, 3, 42]
abbrev dktX3_execute_4 : List UInt8 := dkwX3_execute_4 ++ dktX3_execute_5
def dkwX3_execute_3 : List UInt8 := [42, 180, 0, 36, 154, 0, 24, 42, 7, 28, 104, 182, 1, 0, 62, 42, 180, 0, 36, 154, 255, 229]
abbrev dktX3_execute_3 : List UInt8 := dkwX3_execute_3 ++ dktX3_execute_4
def dkwX3_execute_2 : List UInt8 := [180, 0, 19, 3, 184, 0, 58, 42, 4, 181, 0, 52, 3, 61, 3, 62, 28, 42, 180, 0, 209, 162, 0, 31]
abbrev dktX3_execute_2 : List UInt8 := dkwX3_execute_2 ++ dktX3_execute_3
def dkwX3_execute_1 : List UInt8 := [153, 0, 7, 3, 167, 0, 4, 4, 182, 0, 82, 153, 0, 5, 3, 172, 42, 180, 0, 7, 3, 42]
abbrev dktX3_execute_1 : List UInt8 := dkwX3_execute_1 ++ dktX3_execute_2
def dkwX3_execute_0 : List UInt8 := [42, 182, 0, 253, 60, 27, 154, 0, 11, 42, 42, 180, 0, 200, 181, 0, 25, 42, 3, 181, 0, 197, 42, 27]
abbrev dktX3_execute_0 : List UInt8 := dkwX3_execute_0 ++ dktX3_execute_1
theorem dksX3_execute_0 : cX3_execute.data.toList.drop 0 = dktX3_execute_0 := by decide +kernel
theorem dksX3_execute_1 : cX3_execute.data.toList.drop 24 = dktX3_execute_1 := dk_seg dksX3_execute_0 24 rfl rfl
theorem dksX3_execute_2 : cX3_execute.data.toList.drop 46 = dktX3_execute_2 := dk_seg dksX3_execute_1 22 rfl rfl
theorem dksX3_execute_3 : cX3_execute.data.toList.drop 70 = dktX3_execute_3 := dk_seg dksX3_execute_2 24 rfl rfl
theorem dksX3_execute_4 : cX3_execute.data.toList.drop 92 = dktX3_execute_4 := dk_seg dksX3_execute_3 22 rfl rfl
theorem dksX3_execute_5 : cX3_execute.data.toList.drop 116 = dktX3_execute_5 := dk_seg dksX3_execute_4 24 rfl rfl
theorem dksX3_execute_6 : cX3_execute.data.toList.drop 138 = dktX3_execute_6 := dk_seg dksX3_execute_5 22 rfl rfl
theorem dksX3_execute_7 : cX3_execute.data.toList.drop 160 = dktX3_execute_7 := dk_seg dksX3_execute_6 22 rfl rfl
theorem dX3_execute_0 : decode cX3_execute 0 = .ok (.aload_n 0, 1) := dk_42 (dk_at dksX3_execute_0 0 rfl rfl)
theorem dX3_execute_1 : decode cX3_execute 1 = .ok (.invokevirtual 253, 3) := dk_182 0 253 (dk_at dksX3_execute_0 1 rfl rfl)
theorem dX3_execute_4 : decode cX3_execute 4 = .ok (.istore_n 1, 1) := dk_60 (dk_at dksX3_execute_0 4 rfl rfl)
theorem dX3_execute_5 : decode cX3_execute 5 = .ok (.iload_n 1, 1) := dk_27 (dk_at dksX3_execute_0 5 rfl rfl)
theorem dX3_execute_6 : decode cX3_execute 6 = .ok (.ifCond .ne 11, 3) := dk_154 0 11 (dk_at dksX3_execute_0 6 rfl rfl)
theorem dX3_execute_9 : decode cX3_execute 9 = .ok (.aload_n 0, 1) := dk_42 (dk_at dksX3_execute_0 9 rfl rfl)
theorem dX3_execute_10 : decode cX3_execute 10 = .ok (.aload_n 0, 1) := dk_42 (dk_at dksX3_execute_0 10 rfl rfl)
theorem dX3_execute_11 : decode cX3_execute 11 = .ok (.getfield 200, 3) := dk_180 0 200 (dk_at dksX3_execute_0 11 rfl rfl)
theorem dX3_execute_14 : decode cX3_execute 14 = .ok (.putfield 25, 3) := dk_181 0 25 (dk_at dksX3_execute_0 14 rfl rfl)
theorem dX3_execute_17 : decode cX3_execute 17 = .ok (.aload_n 0, 1) := dk_42 (dk_at dksX3_execute_0 17 rfl rfl)
theorem dX3_execute_18 : decode cX3_execute 18 = .ok (.iconst 0, 1) := dk_3 (dk_at dksX3_execute_0 18 rfl rfl)
theorem dX3_execute_19 : decode cX3_execute 19 = .ok (.putfield 197, 3) := dk_181 0 197 (dk_at dksX3_execute_0 19 rfl rfl)
theorem dX3_execute_22 : decode cX3_execute 22 = .ok (.aload_n 0, 1) := dk_42 (dk_at dksX3_execute_0 22 rfl rfl)
theorem dX3_execute_23 : decode cX3_execute 23 = .ok (.iload_n 1, 1) := dk_27 (dk_at dksX3_execute_0 23 rfl rfl)
theorem dX3_execute_24 : decode cX3_execute 24 = .ok (.ifCond .eq 7, 3) := dk_153 0 7 (dk_at dksX3_execute_1 0 rfl rfl)
theorem dX3_execute_27 : decode cX3_execute 27 = .ok (.iconst 0, 1) := dk_3 (dk_at dksX3_execute_1 3 rfl rfl)
theorem dX3_execute_28 : decode cX3_execute 28 = .ok (.goto 4, 3) := dk_167 0 4 (dk_at dksX3_execute_1 4 rfl rfl)
theorem dX3_execute_31 : decode cX3_execute 31 = .ok (.iconst 1, 1) := dk_4 (dk_at dksX3_execute_1 7 rfl rfl)
theorem dX3_execute_32 : decode cX3_execute 32 = .ok (.invokevirtual 82, 3) := dk_182 0 82 (dk_at dksX3_execute_1 8 rfl rfl)
theorem dX3_execute_35 : decode cX3_execute 35 = .ok (.ifCond .eq 5, 3) := dk_153 0 5 (dk_at dksX3_execute_1 11 rfl rfl)
theorem dX3_execute_38 : decode cX3_execute 38 = .ok (.iconst 0, 1) := dk_3 (dk_at dksX3_execute_1 14 rfl rfl)
theorem dX3_execute_39 : decode cX3_execute 39 = .ok (.ireturn, 1) := dk_172 (dk_at dksX3_execute_1 15 rfl rfl)
theorem dX3_execute_40 : decode cX3_execute 40 = .ok (.aload_n 0, 1) := dk_42 (dk_at dksX3_execute_1 16 rfl rfl)
theorem dX3_execute_41 : decode cX3_execute 41 = .ok (.getfield 7, 3) := dk_180 0 7 (dk_at dksX3_execute_1 17 rfl rfl)
theorem dX3_execute_44 : decode cX3_execute 44 = .ok (.iconst 0, 1) := dk_3 (dk_at dksX3_execute_1 20 rfl rfl)
theorem dX3_execute_45 : decode cX3_execute 45 = .ok (.aload_n 0, 1) := dk_42 (dk_at dksX3_execute_1 21 rfl rfl)
theorem dX3_execute_46 : decode cX3_execute 46 = .ok (.getfield 19, 3) := dk_180 0 19 (dk_at dksX3_execute_2 0 rfl rfl)
theorem dX3_execute_49 : decode cX3_execute 49 = .ok (.iconst 0, 1) := dk_3 (dk_at dksX3_execute_2 3 rfl rfl)
theorem dX3_execute_50 : decode cX3_execute 50 = .ok (.invokestatic 58, 3) := dk_184 0 58 (dk_at dksX3_execute_2 4 rfl rfl)
theorem dX3_execute_53 : decode cX3_execute 53 = .ok (.aload_n 0, 1) := dk_42 (dk_at dksX3_execute_2 7 rfl rfl)
theorem dX3_execute_54 : decode cX3_execute 54 = .ok (.iconst 1, 1) := dk_4 (dk_at dksX3_execute_2 8 rfl rfl)
theorem dX3_execute_55 : decode cX3_execute 55 = .ok (.putfield 52, 3) := dk_181 0 52 (dk_at dksX3_execute_2 9 rfl rfl)
theorem dX3_execute_58 : decode cX3_execute 58 = .ok (.iconst 0, 1) := dk_3 (dk_at dksX3_execute_2 12 rfl rfl)
theorem dX3_execute_59 : decode cX3_execute 59 = .ok (.istore_n 2, 1) := dk_61 (dk_at dksX3_execute_2 13 rfl rfl)
theorem dX3_execute_60 : decode cX3_execute 60 = .ok (.iconst 0, 1) := dk_3 (dk_at dksX3_execute_2 14 rfl rfl)
theorem dX3_execute_61 : decode cX3_execute 61 = .ok (.istore_n 3, 1) := dk_62 (dk_at dksX3_execute_2 15 rfl rfl)
theorem dX3_execute_62 : decode cX3_execute 62 = .ok (.iload_n 2, 1) := dk_28 (dk_at dksX3_execute_2 16 rfl rfl)
theorem dX3_execute_63 : decode cX3_execute 63 = .ok (.aload_n 0, 1) := dk_42 (dk_at dksX3_execute_2 17 rfl rfl)
theorem dX3_execute_64 : decode cX3_execute 64 = .ok (.getfield 209, 3) := dk_180 0 209 (dk_at dksX3_execute_2 18 rfl rfl)
theorem dX3_execute_67 : decode cX3_execute 67 = .ok (.if_icmp .ge 31, 3) := dk_162 0 31 (dk_at dksX3_execute_2 21 rfl rfl)
theorem dX3_execute_70 : decode cX3_execute 70 = .ok (.aload_n 0, 1) := dk_42 (dk_at dksX3_execute_3 0 rfl rfl)
theorem dX3_execute_71 : decode cX3_execute 71 = .ok (.getfield 36, 3) := dk_180 0 36 (dk_at dksX3_execute_3 1 rfl rfl)
theorem dX3_execute_74 : decode cX3_execute 74 = .ok (.ifCond .ne 24, 3) := dk_154 0 24 (dk_at dksX3_execute_3 4 rfl rfl)
theorem dX3_execute_77 : decode cX3_execute 77 = .ok (.aload_n 0, 1) := dk_42 (dk_at dksX3_execute_3 7 rfl rfl)
theorem dX3_execute_78 : decode cX3_execute 78 = .ok (.iconst 4, 1) := dk_7 (dk_at dksX3_execute_3 8 rfl rfl)
theorem dX3_execute_79 : decode cX3_execute 79 = .ok (.iload_n 2, 1) := dk_28 (dk_at dksX3_execute_3 9 rfl rfl)
theorem dX3_execute_80 : decode cX3_execute 80 = .ok (.imul, 1) := dk_104 (dk_at dksX3_execute_3 10 rfl rfl)
theorem dX3_execute_81 : decode cX3_execute 81 = .ok (.invokevirtual 256, 3) := dk_182 1 0 (dk_at dksX3_execute_3 11 rfl rfl)
theorem dX3_execute_84 : decode cX3_execute 84 = .ok (.istore_n 3, 1) := dk_62 (dk_at dksX3_execute_3 14 rfl rfl)
theorem dX3_execute_85 : decode cX3_execute 85 = .ok (.aload_n 0, 1) := dk_42 (dk_at dksX3_execute_3 15 rfl rfl)
theorem dX3_execute_86 : decode cX3_execute 86 = .ok (.getfield 36, 3) := dk_180 0 36 (dk_at dksX3_execute_3 16 rfl rfl)
theorem dX3_execute_89 : decode cX3_execute 89 = .ok (.ifCond .ne (-27), 3) := dk_154 255 229 (dk_at dksX3_execute_3 19 rfl rfl)
theorem dX3_execute_92 : decode cX3_execute 92 = .ok (.iinc 2 1, 3) := dk_132 2 1 (dk_at dksX3_execute_4 0 rfl rfl)
theorem dX3_execute_95 : decode cX3_execute 95 = .ok (.goto (-33), 3) := dk_167 255 223 (dk_at dksX3_execute_4 3 rfl rfl)
theorem dX3_execute_98 : decode cX3_execute 98 = .ok (.aload_n 0, 1) := dk_42 (dk_at dksX3_execute_4 6 rfl rfl)
theorem dX3_execute_99 : decode cX3_execute 99 = .ok (.iconst 0, 1) := dk_3 (dk_at dksX3_execute_4 7 rfl rfl)
theorem dX3_execute_100 : decode cX3_execute 100 = .ok (.putfield 52, 3) := dk_181 0 52 (dk_at dksX3_execute_4 8 rfl rfl)
theorem dX3_execute_103 : decode cX3_execute 103 = .ok (.aload_n 0, 1) := dk_42 (dk_at dksX3_execute_4 11 rfl rfl)
theorem dX3_execute_104 : decode cX3_execute 104 = .ok (.getfield 36, 3) := dk_180 0 36 (dk_at dksX3_execute_4 12 rfl rfl)
theorem dX3_execute_107 : decode cX3_execute 107 = .ok (.ifCond .le 44, 3) := dk_158 0 44 (dk_at dksX3_execute_4 15 rfl rfl)
theorem dX3_execute_110 : decode cX3_execute 110 = .ok (.aload_n 0, 1) := dk_42 (dk_at dksX3_execute_4 18 rfl rfl)
theorem dX3_execute_111 : decode cX3_execute 111 = .ok (.getfield 19, 3) := dk_180 0 19 (dk_at dksX3_execute_4 19 rfl rfl)
theorem dX3_execute_114 : decode cX3_execute 114 = .ok (.iconst 0, 1) := dk_3 (dk_at dksX3_execute_4 22 rfl rfl)
theorem dX3_execute_115 : decode cX3_execute 115 = .ok (.aload_n 0, 1) := dk_42 (dk_at dksX3_execute_4 23 rfl rfl)
theorem dX3_execute_116 : decode cX3_execute 116 = .ok (.getfield 7, 3) := dk_180 0 7 (dk_at dksX3_execute_5 0 rfl rfl)
theorem dX3_execute_119 : decode cX3_execute 119 = .ok (.iconst 0, 1) := dk_3 (dk_at dksX3_execute_5 3 rfl rfl)
theorem dX3_execute_120 : decode cX3_execute 120 = .ok (.invokestatic 58, 3) := dk_184 0 58 (dk_at dksX3_execute_5 4 rfl rfl)
theorem dX3_execute_123 : decode cX3_execute 123 = .ok (.aload_n 0, 1) := dk_42 (dk_at dksX3_execute_5 7 rfl rfl)
theorem dX3_execute_124 : decode cX3_execute 124 = .ok (.getfield 39, 3) := dk_180 0 39 (dk_at dksX3_execute_5 8 rfl rfl)
theorem dX3_execute_127 : decode cX3_execute 127 = .ok (.ifCond .eq 9, 3) := dk_153 0 9 (dk_at dksX3_execute_5 11 rfl rfl)
theorem dX3_execute_130 : decode cX3_execute 130 = .ok (.aload_n 0, 1) := dk_42 (dk_at dksX3_execute_5 14 rfl rfl)
theorem dX3_execute_131 : decode cX3_execute 131 = .ok (.iload_n 2, 1) := dk_28 (dk_at dksX3_execute_5 15 rfl rfl)
theorem dX3_execute_132 : decode cX3_execute 132 = .ok (.invokevirtual 259, 3) := dk_182 1 3 (dk_at dksX3_execute_5 16 rfl rfl)
theorem dX3_execute_135 : decode cX3_execute 135 = .ok (.ireturn, 1) := dk_172 (dk_at dksX3_execute_5 19 rfl rfl)
theorem dX3_execute_136 : decode cX3_execute 136 = .ok (.aload_n 0, 1) := dk_42 (dk_at dksX3_execute_5 20 rfl rfl)
theorem dX3_execute_137 : decode cX3_execute 137 = .ok (.iconst 2, 1) := dk_5 (dk_at dksX3_execute_5 21 rfl rfl)
theorem dX3_execute_138 : decode cX3_execute 138 = .ok (.putfield 36, 3) := dk_181 0 36 (dk_at dksX3_execute_6 0 rfl rfl)
theorem dX3_execute_141 : decode cX3_execute 141 = .ok (.iload_n 3, 1) := dk_29 (dk_at dksX3_execute_6 3 rfl rfl)
theorem dX3_execute_142 : decode cX3_execute 142 = .ok (.ifCond .le 7, 3) := dk_158 0 7 (dk_at dksX3_execute_6 4 rfl rfl)
theorem dX3_execute_145 : decode cX3_execute 145 = .ok (.iconst 0, 1) := dk_3 (dk_at dksX3_execute_6 7 rfl rfl)
theorem dX3_execute_146 : decode cX3_execute 146 = .ok (.goto 4, 3) := dk_167 0 4 (dk_at dksX3_execute_6 8 rfl rfl)
theorem dX3_execute_149 : decode cX3_execute 149 = .ok (.iload_n 3, 1) := dk_29 (dk_at dksX3_execute_6 11 rfl rfl)
theorem dX3_execute_150 : decode cX3_execute 150 = .ok (.ireturn, 1) := dk_172 (dk_at dksX3_execute_6 12 rfl rfl)
theorem dX3_execute_151 : decode cX3_execute 151 = .ok (.aload_n 0, 1) := dk_42 (dk_at dksX3_execute_6 13 rfl rfl)
theorem dX3_execute_152 : decode cX3_execute 152 = .ok (.aload_n 0, 1) := dk_42 (dk_at dksX3_execute_6 14 rfl rfl)
theorem dX3_execute_153 : decode cX3_execute 153 = .ok (.getfield 19, 3) := dk_180 0 19 (dk_at dksX3_execute_6 15 rfl rfl)
theorem dX3_execute_156 : decode cX3_execute 156 = .ok (.invokevirtual 74, 3) := dk_182 0 74 (dk_at dksX3_execute_6 18 rfl rfl)
theorem dX3_execute_159 : decode cX3_execute 159 = .ok (.aload_n 0, 1) := dk_42 (dk_at dksX3_execute_6 21 rfl rfl)
theorem dX3_execute_160 : decode cX3_execute 160 = .ok (.getfield 209, 3) := dk_180 0 209 (dk_at dksX3_execute_7 0 rfl rfl)
theorem dX3_execute_163 : decode cX3_execute 163 = .ok (.ireturn, 1) := dk_172 (dk_at dksX3_execute_7 3 rfl rfl)
def dkwX3_isText_2 : List UInt8 := [160, 0, 7, 4, 167, 0, 4, 3, 172]
abbrev dktX3_isText_2 : List UInt8 := dkwX3_isText_2 ++ []
def dkwX3_isText_1 : List UInt8 := [4, 96, 181, 0, 209, 42, 16, 59, 182, 0, 206, 154, 255, 231, 42, 180, 0, 200, 42, 180, 0, 197]
abbrev dktX3_isText_1 : List UInt8 := dkwX3_isText_1 ++ dktX3_isText_2
def dkwX3_isText_0 : List UInt8 := [42, 3, 181, 0, 200, 42, 3, 181, 0, 209, 42, 182, 0, 218, 154, 0, 5, 3, 172, 42, 89, 180, 0, 209]
abbrev dktX3_isText_0 : List UInt8 := dkwX3_isText_0 ++ dktX3_isText_1
theorem dksX3_isText_0 : cX3_isText.data.toList.drop 0 = dktX3_isText_0 := by decide +kernel
theorem dksX3_isText_1 : cX3_isText.data.toList.drop 24 = dktX3_isText_1 := dk_seg dksX3_isText_0 24 rfl rfl
theorem dksX3_isText_2 : cX3_isText.data.toList.drop 46 = dktX3_isText_2 := dk_seg dksX3_isText_1 22 rfl rfl
theorem dX3_isText_0 : decode cX3_isText 0 = .ok (.aload_n 0, 1) := dk_42 (dk_at dksX3_isText_0 0 rfl rfl)
theorem dX3_isText_1 : decode cX3_isText 1 = .ok (.iconst 0, 1) := dk_3 (dk_at dksX3_isText_0 1 rfl rfl)
theorem dX3_isText_2 : decode cX3_isText 2 = .ok (.putfield 200, 3) := dk_181 0 200 (dk_at dksX3_isText_0 2 rfl rfl)
theorem dX3_isText_5 : decode cX3_isText 5 = .ok (.aload_n 0, 1) := dk_42 (dk_at dksX3_isText_0 5 rfl rfl)
theorem dX3_isText_6 : decode cX3_isText 6 = .ok (.iconst 0, 1) := dk_3 (dk_at dksX3_isText_0 6 rfl rfl)
theorem dX3_isText_7 : decode cX3_isText 7 = .ok (.putfield 209, 3) := dk_181 0 209 (dk_at dksX3_isText_0 7 rfl rfl)
theorem dX3_isText_10 : decode cX3_isText 10 = .ok (.aload_n 0, 1) := dk_42 (dk_at dksX3_isText_0 10 rfl rfl)
theorem dX3_isText_11 : decode cX3_isText 11 = .ok (.invokevirtual 218, 3) := dk_182 0 218 (dk_at dksX3_isText_0 11 rfl rfl)
theorem dX3_isText_14 : decode cX3_isText 14 = .ok (.ifCond .ne 5, 3) := dk_154 0 5 (dk_at dksX3_isText_0 14 rfl rfl)
theorem dX3_isText_17 : decode cX3_isText 17 = .ok (.iconst 0, 1) := dk_3 (dk_at dksX3_isText_0 17 rfl rfl)
theorem dX3_isText_18 : decode cX3_isText 18 = .ok (.ireturn, 1) := dk_172 (dk_at dksX3_isText_0 18 rfl rfl)
theorem dX3_isText_19 : decode cX3_isText 19 = .ok (.aload_n 0, 1) := dk_42 (dk_at dksX3_isText_0 19 rfl rfl)
theorem dX3_isText_20 : decode cX3_isText 20 = .ok (.dup, 1) := dk_89 (dk_at dksX3_isText_0 20 rfl rfl)
theorem dX3_isText_21 : decode cX3_isText 21 = .ok (.getfield 209, 3) := dk_180 0 209 (dk_at dksX3_isText_0 21 rfl rfl)
theorem dX3_isText_24 : decode cX3_isText 24 = .ok (.iconst 1, 1) := dk_4 (dk_at dksX3_isText_1 0 rfl rfl)
theorem dX3_isText_25 : decode cX3_isText 25 = .ok (.iadd, 1) := dk_96 (dk_at dksX3_isText_1 1 rfl rfl)
theorem dX3_isText_26 : decode cX3_isText 26 = .ok (.putfield 209, 3) := dk_181 0 209 (dk_at dksX3_isText_1 2 rfl rfl)
theorem dX3_isText_29 : decode cX3_isText 29 = .ok (.aload_n 0, 1) := dk_42 (dk_at dksX3_isText_1 5 rfl rfl)
theorem dX3_isText_30 : decode cX3_isText 30 = .ok (.bipush 59, 2) := dk_16 59 (dk_at dksX3_isText_1 6 rfl rfl)
theorem dX3_isText_32 : decode cX3_isText 32 = .ok (.invokevirtual 206, 3) := dk_182 0 206 (dk_at dksX3_isText_1 8 rfl rfl)
theorem dX3_isText_35 : decode cX3_isText 35 = .ok (.ifCond .ne (-25), 3) := dk_154 255 231 (dk_at dksX3_isText_1 11 rfl rfl)
theorem dX3_isText_38 : decode cX3_isText 38 = .ok (.aload_n 0, 1) := dk_42 (dk_at dksX3_isText_1 14 rfl rfl)
theorem dX3_isText_39 : decode cX3_isText 39 = .ok (.getfield 200, 3) := dk_180 0 200 (dk_at dksX3_isText_1 15 rfl rfl)
theorem dX3_isText_42 : decode cX3_isText 42 = .ok (.aload_n 0, 1) := dk_42 (dk_at dksX3_isText_1 18 rfl rfl)
theorem dX3_isText_43 : decode cX3_isText 43 = .ok (.getfield 197, 3) := dk_180 0 197 (dk_at dksX3_isText_1 19 rfl rfl)
theorem dX3_isText_46 : decode cX3_isText 46 = .ok (.if_icmp .ne 7, 3) := dk_160 0 7 (dk_at dksX3_isText_2 0 rfl rfl)
theorem dX3_isText_49 : decode cX3_isText 49 = .ok (.iconst 1, 1) := dk_4 (dk_at dksX3_isText_2 3 rfl rfl)
theorem dX3_isText_50 : decode cX3_isText 50 = .ok (.goto 4, 3) := dk_167 0 4 (dk_at dksX3_isText_2 4 rfl rfl)
theorem dX3_isText_53 : decode cX3_isText 53 = .ok (.iconst 0, 1) := dk_3 (dk_at dksX3_isText_2 7 rfl rfl)
theorem dX3_isText_54 : decode cX3_isText 54 = .ok (.ireturn, 1) := dk_172 (dk_at dksX3_isText_2 8 rfl rfl)
def dkwX3_commandHere_8 : List UInt8 := [182, 0, 206, 153, 0, 18, 42, 27, 4, 96, 5, 182, 0, 212, 153, 0, 7, 4, 167, 0, 4, 3, 172]
abbrev dktX3_commandHere_8 : List UInt8 := dkwX3_commandHere_8 ++ []
def dkwX3_commandHere_7 : List UInt8 := [154, 0, 30, 42, 16, 110, 182, 0, 206, 154, 0, 21, 42, 16, 101, 182, 0, 206, 154, 0, 12, 42, 16, 107]
abbrev dktX3_commandHere_7 : List UInt8 := dkwX3_commandHere_7 ++ dktX3_commandHere_8
def dkwX3_commandHere_6 : List UInt8 := [16, 99, 182, 0, 206, 154, 0, 48, 42, 16, 98, 182, 0, 206, 154, 0, 39, 42, 16, 112, 182, 0, 206]
abbrev dktX3_commandHere_6 : List UInt8 := dkwX3_commandHere_6 ++ dktX3_commandHere_7
def dkwX3_commandHere_5 : List UInt8 := [167, 0, 4, 3, 172, 42, 16, 121, 182, 0, 206, 153, 0, 12, 42, 27, 4, 96, 4, 182, 0, 212, 172, 42]
abbrev dktX3_commandHere_5 : List UInt8 := dkwX3_commandHere_5 ++ dktX3_commandHere_6
def dkwX3_commandHere_4 : List UInt8 := [153, 0, 27, 42, 16, 62, 182, 0, 206, 153, 0, 18, 42, 27, 5, 96, 5, 182, 0, 212, 153, 0, 7, 4]
abbrev dktX3_commandHere_4 : List UInt8 := dkwX3_commandHere_4 ++ dktX3_commandHere_5
def dkwX3_commandHere_3 : List UInt8 := [4, 167, 0, 4, 3, 172, 42, 16, 103, 182, 0, 206, 153, 0, 40, 42, 27, 4, 96, 5, 182, 0, 212]
abbrev dktX3_commandHere_3 : List UInt8 := dkwX3_commandHere_3 ++ dktX3_commandHere_4
def dkwX3_commandHere_2 : List UInt8 := [153, 0, 28, 42, 27, 5, 96, 182, 0, 215, 153, 0, 18, 42, 27, 6, 96, 4, 182, 0, 212, 153, 0, 7]
abbrev dktX3_commandHere_2 : List UInt8 := dkwX3_commandHere_2 ++ dktX3_commandHere_3
def dkwX3_commandHere_1 : List UInt8 := [153, 0, 5, 4, 172, 42, 16, 97, 182, 0, 206, 153, 0, 41, 42, 27, 4, 96, 5, 182, 0, 212]
abbrev dktX3_commandHere_1 : List UInt8 := dkwX3_commandHere_1 ++ dktX3_commandHere_2
def dkwX3_commandHere_0 : List UInt8 := [7, 42, 180, 0, 209, 104, 60, 42, 180, 0, 33, 27, 42, 182, 0, 203, 79, 42, 16, 102, 182, 0, 206]
abbrev dktX3_commandHere_0 : List UInt8 := dkwX3_commandHere_0 ++ dktX3_commandHere_1
theorem dksX3_commandHere_0 : cX3_commandHere.data.toList.drop 0 = dktX3_commandHere_0 := by decide +kernel
theorem dksX3_commandHere_1 : cX3_commandHere.data.toList.drop 23 = dktX3_commandHere_1 := dk_seg dksX3_commandHere_0 23 rfl rfl
theorem dksX3_commandHere_2 : cX3_commandHere.data.toList.drop 45 = dktX3_commandHere_2 := dk_seg dksX3_commandHere_1 22 rfl rfl
theorem dksX3_commandHere_3 : cX3_commandHere.data.toList.drop 69 = dktX3_commandHere_3 := dk_seg dksX3_commandHere_2 24 rfl rfl
theorem dksX3_commandHere_4 : cX3_commandHere.data.toList.drop 92 = dktX3_commandHere_4 := dk_seg dksX3_commandHere_3 23 rfl rfl
theorem dksX3_commandHere_5 : cX3_commandHere.data.toList.drop 116 = dktX3_commandHere_5 := dk_seg dksX3_commandHere_4 24 rfl rfl
theorem dksX3_commandHere_6 : cX3_commandHere.data.toList.drop 140 = dktX3_commandHere_6 := dk_seg dksX3_commandHere_5 24 rfl rfl
theorem dksX3_commandHere_7 : cX3_commandHere.data.toList.drop 163 = dktX3_commandHere_7 := dk_seg dksX3_commandHere_6 23 rfl rfl
theorem dksX3_commandHere_8 : cX3_commandHere.data.toList.drop 187 = dktX3_commandHere_8 := dk_seg dksX3_commandHere_7 24 rfl rfl
theorem dX3_commandHere_0 : decode cX3_commandHere 0 = .ok (.iconst 4, 1) := dk_7 (dk_at dksX3_commandHere_0 0 rfl rfl)
theorem dX3_commandHere_1 : decode cX3_commandHere 1 = .ok (.aload_n 0, 1) := dk_42 (dk_at dksX3_commandHere_0 1 rfl rfl)
theorem dX3_commandHere_2 : decode cX3_commandHere 2 = .ok (.getfield 209, 3) := dk_180 0 209 (dk_at dksX3_commandHere_0 2 rfl rfl)
theorem dX3_commandHere_5 : decode cX3_commandHere 5 = .ok (.imul, 1) := dk_104 (dk_at dksX3_commandHere_0 5 rfl rfl)
theorem dX3_commandHere_6 : decode cX3_commandHere 6 = .ok (.istore_n 1, 1) := dk_60 (dk_at dksX3_commandHere_0 6 rfl rfl)
theorem dX3_commandHere_7 : decode cX3_commandHere 7 = .ok (.aload_n 0, 1) := dk_42 (dk_at dksX3_commandHere_0 7 rfl rfl)
theorem dX3_commandHere_8 : decode cX3_commandHere 8 = .ok (.getfield 33, 3) := dk_180 0 33 (dk_at dksX3_commandHere_0 8 rfl rfl)
theorem dX3_commandHere_11 : decode cX3_commandHere 11 = .ok (.iload_n 1, 1) := dk_27 (dk_at dksX3_commandHere_0 11 rfl rfl)
theorem dX3_commandHere_12 : decode cX3_commandHere 12 = .ok (.aload_n 0, 1) := dk_42 (dk_at dksX3_commandHere_0 12 rfl rfl)
theorem dX3_commandHere_13 : decode cX3_commandHere 13 = .ok (.invokevirtual 203, 3) := dk_182 0 203 (dk_at dksX3_commandHere_0 13 rfl rfl)
theorem dX3_commandHere_16 : decode cX3_commandHere 16 = .ok (.iastore, 1) := dk_79 (dk_at dksX3_commandHere_0 16 rfl rfl)
theorem dX3_commandHere_17 : decode cX3_commandHere 17 = .ok (.aload_n 0, 1) := dk_42 (dk_at dksX3_commandHere_0 17 rfl rfl)
theorem dX3_commandHere_18 : decode cX3_commandHere 18 = .ok (.bipush 102, 2) := dk_16 102 (dk_at dksX3_commandHere_0 18 rfl rfl)
theorem dX3_commandHere_20 : decode cX3_commandHere 20 = .ok (.invokevirtual 206, 3) := dk_182 0 206 (dk_at dksX3_commandHere_0 20 rfl rfl)
theorem dX3_commandHere_23 : decode cX3_commandHere 23 = .ok (.ifCond .eq 5, 3) := dk_153 0 5 (dk_at dksX3_commandHere_1 0 rfl rfl)
theorem dX3_commandHere_26 : decode cX3_commandHere 26 = .ok (.iconst 1, 1) := dk_4 (dk_at dksX3_commandHere_1 3 rfl rfl)
theorem dX3_commandHere_27 : decode cX3_commandHere 27 = .ok (.ireturn, 1) := dk_172 (dk_at dksX3_commandHere_1 4 rfl rfl)
theorem dX3_commandHere_28 : decode cX3_commandHere 28 = .ok (.aload_n 0, 1) := dk_42 (dk_at dksX3_commandHere_1 5 rfl rfl)
theorem dX3_commandHere_29 : decode cX3_commandHere 29 = .ok (.bipush 97, 2) := dk_16 97 (dk_at dksX3_commandHere_1 6 rfl rfl)
theorem dX3_commandHere_31 : decode cX3_commandHere 31 = .ok (.invokevirtual 206, 3) := dk_182 0 206 (dk_at dksX3_commandHere_1 8 rfl rfl)
theorem dX3_commandHere_34 : decode cX3_commandHere 34 = .ok (.ifCond .eq 41, 3) := dk_153 0 41 (dk_at dksX3_commandHere_1 11 rfl rfl)
theorem dX3_commandHere_37 : decode cX3_commandHere 37 = .ok (.aload_n 0, 1) := dk_42 (dk_at dksX3_commandHere_1 14 rfl rfl)
theorem dX3_commandHere_38 : decode cX3_commandHere 38 = .ok (.iload_n 1, 1) := dk_27 (dk_at dksX3_commandHere_1 15 rfl rfl)
theorem dX3_commandHere_39 : decode cX3_commandHere 39 = .ok (.iconst 1, 1) := dk_4 (dk_at dksX3_commandHere_1 16 rfl rfl)
theorem dX3_commandHere_40 : decode cX3_commandHere 40 = .ok (.iadd, 1) := dk_96 (dk_at dksX3_commandHere_1 17 rfl rfl)
theorem dX3_commandHere_41 : decode cX3_commandHere 41 = .ok (.iconst 2, 1) := dk_5 (dk_at dksX3_commandHere_1 18 rfl rfl)
theorem dX3_commandHere_42 : decode cX3_commandHere 42 = .ok (.invokevirtual 212, 3) := dk_182 0 212 (dk_at dksX3_commandHere_1 19 rfl rfl)
theorem dX3_commandHere_45 : decode cX3_commandHere 45 = .ok (.ifCond .eq 28, 3) := dk_153 0 28 (dk_at dksX3_commandHere_2 0 rfl rfl)
theorem dX3_commandHere_48 : decode cX3_commandHere 48 = .ok (.aload_n 0, 1) := dk_42 (dk_at dksX3_commandHere_2 3 rfl rfl)
theorem dX3_commandHere_49 : decode cX3_commandHere 49 = .ok (.iload_n 1, 1) := dk_27 (dk_at dksX3_commandHere_2 4 rfl rfl)
theorem dX3_commandHere_50 : decode cX3_commandHere 50 = .ok (.iconst 2, 1) := dk_5 (dk_at dksX3_commandHere_2 5 rfl rfl)
theorem dX3_commandHere_51 : decode cX3_commandHere 51 = .ok (.iadd, 1) := dk_96 (dk_at dksX3_commandHere_2 6 rfl rfl)
theorem dX3_commandHere_52 : decode cX3_commandHere 52 = .ok (.invokevirtual 215, 3) := dk_182 0 215 (dk_at dksX3_commandHere_2 7 rfl rfl)
theorem dX3_commandHere_55 : decode cX3_commandHere 55 = .ok (.ifCond .eq 18, 3) := dk_153 0 18 (dk_at dksX3_commandHere_2 10 rfl rfl)
theorem dX3_commandHere_58 : decode cX3_commandHere 58 = .ok (.aload_n 0, 1) := dk_42 (dk_at dksX3_commandHere_2 13 rfl rfl)
theorem dX3_commandHere_59 : decode cX3_commandHere 59 = .ok (.iload_n 1, 1) := dk_27 (dk_at dksX3_commandHere_2 14 rfl rfl)
theorem dX3_commandHere_60 : decode cX3_commandHere 60 = .ok (.iconst 3, 1) := dk_6 (dk_at dksX3_commandHere_2 15 rfl rfl)
theorem dX3_commandHere_61 : decode cX3_commandHere 61 = .ok (.iadd, 1) := dk_96 (dk_at dksX3_commandHere_2 16 rfl rfl)
theorem dX3_commandHere_62 : decode cX3_commandHere 62 = .ok (.iconst 1, 1) := dk_4 (dk_at dksX3_commandHere_2 17 rfl rfl)
theorem dX3_commandHere_63 : decode cX3_commandHere 63 = .ok (.invokevirtual 212, 3) := dk_182 0 212 (dk_at dksX3_commandHere_2 18 rfl rfl)
theorem dX3_commandHere_66 : decode cX3_commandHere 66 = .ok (.ifCond .eq 7, 3) := dk_153 0 7 (dk_at dksX3_commandHere_2 21 rfl rfl)
theorem dX3_commandHere_69 : decode cX3_commandHere 69 = .ok (.iconst 1, 1) := dk_4 (dk_at dksX3_commandHere_3 0 rfl rfl)
theorem dX3_commandHere_70 : decode cX3_commandHere 70 = .ok (.goto 4, 3) := dk_167 0 4 (dk_at dksX3_commandHere_3 1 rfl rfl)
theorem dX3_commandHere_73 : decode cX3_commandHere 73 = .ok (.iconst 0, 1) := dk_3 (dk_at dksX3_commandHere_3 4 rfl rfl)
theorem dX3_commandHere_74 : decode cX3_commandHere 74 = .ok (.ireturn, 1) := dk_172 (dk_at dksX3_commandHere_3 5 rfl rfl)
theorem dX3_commandHere_75 : decode cX3_commandHere 75 = .ok (.aload_n 0, 1) := dk_42 (dk_at dksX3_commandHere_3 6 rfl rfl)
theorem dX3_commandHere_76 : decode cX3_commandHere 76 = .ok (.bipush 103, 2) := dk_16 103 (dk_at dksX3_commandHere_3 7 rfl rfl)
theorem dX3_commandHere_78 : decode cX3_commandHere 78 = .ok (.invokevirtual 206, 3) := dk_182 0 206 (dk_at dksX3_commandHere_3 9 rfl rfl)
theorem dX3_commandHere_81 : decode cX3_commandHere 81 = .ok (.ifCond .eq 40, 3) := dk_153 0 40 (dk_at dksX3_commandHere_3 12 rfl rfl)
theorem dX3_commandHere_84 : decode cX3_commandHere 84 = .ok (.aload_n 0, 1) := dk_42 (dk_at dksX3_commandHere_3 15 rfl rfl)
theorem dX3_commandHere_85 : decode cX3_commandHere 85 = .ok (.iload_n 1, 1) := dk_27 (dk_at dksX3_commandHere_3 16 rfl rfl)
theorem dX3_commandHere_86 : decode cX3_commandHere 86 = .ok (.iconst 1, 1) := dk_4 (dk_at dksX3_commandHere_3 17 rfl rfl)
theorem dX3_commandHere_87 : decode cX3_commandHere 87 = .ok (.iadd, 1) := dk_96 (dk_at dksX3_commandHere_3 18 rfl rfl)
theorem dX3_commandHere_88 : decode cX3_commandHere 88 = .ok (.iconst 2, 1) := dk_5 (dk_at dksX3_commandHere_3 19 rfl rfl)
theorem dX3_commandHere_89 : decode cX3_commandHere 89 = .ok (.invokevirtual 212, 3) := dk_182 0 212 (dk_at dksX3_commandHere_3 20 rfl rfl)
theorem dX3_commandHere_92 : decode cX3_commandHere 92 = .ok (.ifCond .eq 27, 3) := dk_153 0 27 (dk_at dksX3_commandHere_4 0 rfl rfl)
theorem dX3_commandHere_95 : decode cX3_commandHere 95 = .ok (.aload_n 0, 1) := dk_42 (dk_at dksX3_commandHere_4 3 rfl rfl)
theorem dX3_commandHere_96 : decode cX3_commandHere 96 = .ok (.bipush 62, 2) := dk_16 62 (dk_at dksX3_commandHere_4 4 rfl rfl)
theorem dX3_commandHere_98 : decode cX3_commandHere 98 = .ok (.invokevirtual 206, 3) := dk_182 0 206 (dk_at dksX3_commandHere_4 6 rfl rfl)
theorem dX3_commandHere_101 : decode cX3_commandHere 101 = .ok (.ifCond .eq 18, 3) := dk_153 0 18 (dk_at dksX3_commandHere_4 9 rfl rfl)
theorem dX3_commandHere_104 : decode cX3_commandHere 104 = .ok (.aload_n 0, 1) := dk_42 (dk_at dksX3_commandHere_4 12 rfl rfl)
theorem dX3_commandHere_105 : decode cX3_commandHere 105 = .ok (.iload_n 1, 1) := dk_27 (dk_at dksX3_commandHere_4 13 rfl rfl)
theorem dX3_commandHere_106 : decode cX3_commandHere 106 = .ok (.iconst 2, 1) := dk_5 (dk_at dksX3_commandHere_4 14 rfl rfl)
theorem dX3_commandHere_107 : decode cX3_commandHere 107 = .ok (.iadd, 1) := dk_96 (dk_at dksX3_commandHere_4 15 rfl rfl)
theorem dX3_commandHere_108 : decode cX3_commandHere 108 = .ok (.iconst 2, 1) := dk_5 (dk_at dksX3_commandHere_4 16 rfl rfl)
theorem dX3_commandHere_109 : decode cX3_commandHere 109 = .ok (.invokevirtual 212, 3) := dk_182 0 212 (dk_at dksX3_commandHere_4 17 rfl rfl)
theorem dX3_commandHere_112 : decode cX3_commandHere 112 = .ok (.ifCond .eq 7, 3) := dk_153 0 7 (dk_at dksX3_commandHere_4 20 rfl rfl)
theorem dX3_commandHere_115 : decode cX3_commandHere 115 = .ok (.iconst 1, 1) := dk_4 (dk_at dksX3_commandHere_4 23 rfl rfl)
theorem dX3_commandHere_116 : decode cX3_commandHere 116 = .ok (.goto 4, 3) := dk_167 0 4 (dk_at dksX3_commandHere_5 0 rfl rfl)
theorem dX3_commandHere_119 : decode cX3_commandHere 119 = .ok (.iconst 0, 1) := dk_3 (dk_at dksX3_commandHere_5 3 rfl rfl)
theorem dX3_commandHere_120 : decode cX3_commandHere 120 = .ok (.ireturn, 1) := dk_172 (dk_at dksX3_commandHere_5 4 rfl rfl)
theorem dX3_commandHere_121 : decode cX3_commandHere 121 = .ok (.aload_n 0, 1) := dk_42 (dk_at dksX3_commandHere_5 5 rfl rfl)
theorem dX3_commandHere_122 : decode cX3_commandHere 122 = .ok (.bipush 121, 2) := dk_16 121 (dk_at dksX3_commandHere_5 6 rfl rfl)
theorem dX3_commandHere_124 : decode cX3_commandHere 124 = .ok (.invokevirtual 206, 3) := dk_182 0 206 (dk_at dksX3_commandHere_5 8 rfl rfl)
theorem dX3_commandHere_127 : decode cX3_commandHere 127 = .ok (.ifCond .eq 12, 3) := dk_153 0 12 (dk_at dksX3_commandHere_5 11 rfl rfl)
theorem dX3_commandHere_130 : decode cX3_commandHere 130 = .ok (.aload_n 0, 1) := dk_42 (dk_at dksX3_commandHere_5 14 rfl rfl)
theorem dX3_commandHere_131 : decode cX3_commandHere 131 = .ok (.iload_n 1, 1) := dk_27 (dk_at dksX3_commandHere_5 15 rfl rfl)
theorem dX3_commandHere_132 : decode cX3_commandHere 132 = .ok (.iconst 1, 1) := dk_4 (dk_at dksX3_commandHere_5 16 rfl rfl)
theorem dX3_commandHere_133 : decode cX3_commandHere 133 = .ok (.iadd, 1) := dk_96 (dk_at dksX3_commandHere_5 17 rfl rfl)
theorem dX3_commandHere_134 : decode cX3_commandHere 134 = .ok (.iconst 1, 1) := dk_4 (dk_at dksX3_commandHere_5 18 rfl rfl)
theorem dX3_commandHere_135 : decode cX3_commandHere 135 = .ok (.invokevirtual 212, 3) := dk_182 0 212 (dk_at dksX3_commandHere_5 19 rfl rfl)
theorem dX3_commandHere_138 : decode cX3_commandHere 138 = .ok (.ireturn, 1) := dk_172 (dk_at dksX3_commandHere_5 22 rfl rfl)
theorem dX3_commandHere_139 : decode cX3_commandHere 139 = .ok (.aload_n 0, 1) := dk_42 (dk_at dksX3_commandHere_5 23 rfl rfl)
theorem dX3_commandHere_140 : decode cX3_commandHere 140 = .ok (.bipush 99, 2) := dk_16 99 (dk_at dksX3_commandHere_6 0 rfl rfl)
theorem dX3_commandHere_142 : decode cX3_commandHere 142 = .ok (.invokevirtual 206, 3) := dk_182 0 206 (dk_at dksX3_commandHere_6 2 rfl rfl)
theorem dX3_commandHere_145 : decode cX3_commandHere 145 = .ok (.ifCond .ne 48, 3) := dk_154 0 48 (dk_at dksX3_commandHere_6 5 rfl rfl)
theorem dX3_commandHere_148 : decode cX3_commandHere 148 = .ok (.aload_n 0, 1) := dk_42 (dk_at dksX3_commandHere_6 8 rfl rfl)
theorem dX3_commandHere_149 : decode cX3_commandHere 149 = .ok (.bipush 98, 2) := dk_16 98 (dk_at dksX3_commandHere_6 9 rfl rfl)
theorem dX3_commandHere_151 : decode cX3_commandHere 151 = .ok (.invokevirtual 206, 3) := dk_182 0 206 (dk_at dksX3_commandHere_6 11 rfl rfl)
theorem dX3_commandHere_154 : decode cX3_commandHere 154 = .ok (.ifCond .ne 39, 3) := dk_154 0 39 (dk_at dksX3_commandHere_6 14 rfl rfl)
theorem dX3_commandHere_157 : decode cX3_commandHere 157 = .ok (.aload_n 0, 1) := dk_42 (dk_at dksX3_commandHere_6 17 rfl rfl)
theorem dX3_commandHere_158 : decode cX3_commandHere 158 = .ok (.bipush 112, 2) := dk_16 112 (dk_at dksX3_commandHere_6 18 rfl rfl)
theorem dX3_commandHere_160 : decode cX3_commandHere 160 = .ok (.invokevirtual 206, 3) := dk_182 0 206 (dk_at dksX3_commandHere_6 20 rfl rfl)
theorem dX3_commandHere_163 : decode cX3_commandHere 163 = .ok (.ifCond .ne 30, 3) := dk_154 0 30 (dk_at dksX3_commandHere_7 0 rfl rfl)
theorem dX3_commandHere_166 : decode cX3_commandHere 166 = .ok (.aload_n 0, 1) := dk_42 (dk_at dksX3_commandHere_7 3 rfl rfl)
theorem dX3_commandHere_167 : decode cX3_commandHere 167 = .ok (.bipush 110, 2) := dk_16 110 (dk_at dksX3_commandHere_7 4 rfl rfl)
theorem dX3_commandHere_169 : decode cX3_commandHere 169 = .ok (.invokevirtual 206, 3) := dk_182 0 206 (dk_at dksX3_commandHere_7 6 rfl rfl)
theorem dX3_commandHere_172 : decode cX3_commandHere 172 = .ok (.ifCond .ne 21, 3) := dk_154 0 21 (dk_at dksX3_commandHere_7 9 rfl rfl)
theorem dX3_commandHere_175 : decode cX3_commandHere 175 = .ok (.aload_n 0, 1) := dk_42 (dk_at dksX3_commandHere_7 12 rfl rfl)
theorem dX3_commandHere_176 : decode cX3_commandHere 176 = .ok (.bipush 101, 2) := dk_16 101 (dk_at dksX3_commandHere_7 13 rfl rfl)
theorem dX3_commandHere_178 : decode cX3_commandHere 178 = .ok (.invokevirtual 206, 3) := dk_182 0 206 (dk_at dksX3_commandHere_7 15 rfl rfl)
theorem dX3_commandHere_181 : decode cX3_commandHere 181 = .ok (.ifCond .ne 12, 3) := dk_154 0 12 (dk_at dksX3_commandHere_7 18 rfl rfl)
theorem dX3_commandHere_184 : decode cX3_commandHere 184 = .ok (.aload_n 0, 1) := dk_42 (dk_at dksX3_commandHere_7 21 rfl rfl)
theorem dX3_commandHere_185 : decode cX3_commandHere 185 = .ok (.bipush 107, 2) := dk_16 107 (dk_at dksX3_commandHere_7 22 rfl rfl)
theorem dX3_commandHere_187 : decode cX3_commandHere 187 = .ok (.invokevirtual 206, 3) := dk_182 0 206 (dk_at dksX3_commandHere_8 0 rfl rfl)
theorem dX3_commandHere_190 : decode cX3_commandHere 190 = .ok (.ifCond .eq 18, 3) := dk_153 0 18 (dk_at dksX3_commandHere_8 3 rfl rfl)
theorem dX3_commandHere_193 : decode cX3_commandHere 193 = .ok (.aload_n 0, 1) := dk_42 (dk_at dksX3_commandHere_8 6 rfl rfl)
theorem dX3_commandHere_194 : decode cX3_commandHere 194 = .ok (.iload_n 1, 1) := dk_27 (dk_at dksX3_commandHere_8 7 rfl rfl)
theorem dX3_commandHere_195 : decode cX3_commandHere 195 = .ok (.iconst 1, 1) := dk_4 (dk_at dksX3_commandHere_8 8 rfl rfl)
theorem dX3_commandHere_196 : decode cX3_commandHere 196 = .ok (.iadd, 1) := dk_96 (dk_at dksX3_commandHere_8 9 rfl rfl)
theorem dX3_commandHere_197 : decode cX3_commandHere 197 = .ok (.iconst 2, 1) := dk_5 (dk_at dksX3_commandHere_8 10 rfl rfl)
theorem dX3_commandHere_198 : decode cX3_commandHere 198 = .ok (.invokevirtual 212, 3) := dk_182 0 212 (dk_at dksX3_commandHere_8 11 rfl rfl)
theorem dX3_commandHere_201 : decode cX3_commandHere 201 = .ok (.ifCond .eq 7, 3) := dk_153 0 7 (dk_at dksX3_commandHere_8 14 rfl rfl)
theorem dX3_commandHere_204 : decode cX3_commandHere 204 = .ok (.iconst 1, 1) := dk_4 (dk_at dksX3_commandHere_8 17 rfl rfl)
theorem dX3_commandHere_205 : decode cX3_commandHere 205 = .ok (.goto 4, 3) := dk_167 0 4 (dk_at dksX3_commandHere_8 18 rfl rfl)
theorem dX3_commandHere_208 : decode cX3_commandHere 208 = .ok (.iconst 0, 1) := dk_3 (dk_at dksX3_commandHere_8 21 rfl rfl)
theorem dX3_commandHere_209 : decode cX3_commandHere 209 = .ok (.ireturn, 1) := dk_172 (dk_at dksX3_commandHere_8 22 rfl rfl)
def dkwX3_here_1 : List UInt8 := [172]
abbrev dktX3_here_1 : List UInt8 := dkwX3_here_1 ++ []
def dkwX3_here_0 : List UInt8 := [42, 180, 0, 200, 42, 180, 0, 197, 162, 0, 15, 42, 180, 0, 22, 42, 180, 0, 200, 46, 167, 0, 4, 2]
abbrev dktX3_here_0 : List UInt8 := dkwX3_here_0 ++ dktX3_here_1
theorem dksX3_here_0 : cX3_here.data.toList.drop 0 = dktX3_here_0 := by decide +kernel
theorem dksX3_here_1 : cX3_here.data.toList.drop 24 = dktX3_here_1 := dk_seg dksX3_here_0 24 rfl rfl
theorem dX3_here_0 : decode cX3_here 0 = .ok (.aload_n 0, 1) := dk_42 (dk_at dksX3_here_0 0 rfl rfl)
theorem dX3_here_1 : decode cX3_here 1 = .ok (.getfield 200, 3) := dk_180 0 200 (dk_at dksX3_here_0 1 rfl rfl)
theorem dX3_here_4 : decode cX3_here 4 = .ok (.aload_n 0, 1) := dk_42 (dk_at dksX3_here_0 4 rfl rfl)
theorem dX3_here_5 : decode cX3_here 5 = .ok (.getfield 197, 3) := dk_180 0 197 (dk_at dksX3_here_0 5 rfl rfl)
theorem dX3_here_8 : decode cX3_here 8 = .ok (.if_icmp .ge 15, 3) := dk_162 0 15 (dk_at dksX3_here_0 8 rfl rfl)
theorem dX3_here_11 : decode cX3_here 11 = .ok (.aload_n 0, 1) := dk_42 (dk_at dksX3_here_0 11 rfl rfl)
theorem dX3_here_12 : decode cX3_here 12 = .ok (.getfield 22, 3) := dk_180 0 22 (dk_at dksX3_here_0 12 rfl rfl)
theorem dX3_here_15 : decode cX3_here 15 = .ok (.aload_n 0, 1) := dk_42 (dk_at dksX3_here_0 15 rfl rfl)
theorem dX3_here_16 : decode cX3_here 16 = .ok (.getfield 200, 3) := dk_180 0 200 (dk_at dksX3_here_0 16 rfl rfl)
theorem dX3_here_19 : decode cX3_here 19 = .ok (.iaload, 1) := dk_46 (dk_at dksX3_here_0 19 rfl rfl)
theorem dX3_here_20 : decode cX3_here 20 = .ok (.goto 4, 3) := dk_167 0 4 (dk_at dksX3_here_0 20 rfl rfl)
theorem dX3_here_23 : decode cX3_here 23 = .ok (.iconst (-1), 1) := dk_2 (dk_at dksX3_here_0 23 rfl rfl)
theorem dX3_here_24 : decode cX3_here 24 = .ok (.ireturn, 1) := dk_172 (dk_at dksX3_here_1 0 rfl rfl)
def dkwX3_skips_0 : List UInt8 := [42, 182, 0, 203, 27, 159, 0, 5, 3, 172, 42, 89, 180, 0, 200, 4, 96, 181, 0, 200, 4, 172]
abbrev dktX3_skips_0 : List UInt8 := dkwX3_skips_0 ++ []
theorem dksX3_skips_0 : cX3_skips.data.toList.drop 0 = dktX3_skips_0 := by decide +kernel
theorem dX3_skips_0 : decode cX3_skips 0 = .ok (.aload_n 0, 1) := dk_42 (dk_at dksX3_skips_0 0 rfl rfl)
theorem dX3_skips_1 : decode cX3_skips 1 = .ok (.invokevirtual 203, 3) := dk_182 0 203 (dk_at dksX3_skips_0 1 rfl rfl)
theorem dX3_skips_4 : decode cX3_skips 4 = .ok (.iload_n 1, 1) := dk_27 (dk_at dksX3_skips_0 4 rfl rfl)
theorem dX3_skips_5 : decode cX3_skips 5 = .ok (.if_icmp .eq 5, 3) := dk_159 0 5 (dk_at dksX3_skips_0 5 rfl rfl)
theorem dX3_skips_8 : decode cX3_skips 8 = .ok (.iconst 0, 1) := dk_3 (dk_at dksX3_skips_0 8 rfl rfl)
theorem dX3_skips_9 : decode cX3_skips 9 = .ok (.ireturn, 1) := dk_172 (dk_at dksX3_skips_0 9 rfl rfl)
theorem dX3_skips_10 : decode cX3_skips 10 = .ok (.aload_n 0, 1) := dk_42 (dk_at dksX3_skips_0 10 rfl rfl)
theorem dX3_skips_11 : decode cX3_skips 11 = .ok (.dup, 1) := dk_89 (dk_at dksX3_skips_0 11 rfl rfl)
theorem dX3_skips_12 : decode cX3_skips 12 = .ok (.getfield 200, 3) := dk_180 0 200 (dk_at dksX3_skips_0 12 rfl rfl)
theorem dX3_skips_15 : decode cX3_skips 15 = .ok (.iconst 1, 1) := dk_4 (dk_at dksX3_skips_0 15 rfl rfl)
theorem dX3_skips_16 : decode cX3_skips 16 = .ok (.iadd, 1) := dk_96 (dk_at dksX3_skips_0 16 rfl rfl)
theorem dX3_skips_17 : decode cX3_skips 17 = .ok (.putfield 200, 3) := dk_181 0 200 (dk_at dksX3_skips_0 17 rfl rfl)
theorem dX3_skips_20 : decode cX3_skips 20 = .ok (.iconst 1, 1) := dk_4 (dk_at dksX3_skips_0 20 rfl rfl)
theorem dX3_skips_21 : decode cX3_skips 21 = .ok (.ireturn, 1) := dk_172 (dk_at dksX3_skips_0 21 rfl rfl)
def dkwX3_figures_3 : List UInt8 := [4, 96, 181, 0, 200, 132, 3, 1, 167, 255, 201, 4, 172]
abbrev dktX3_figures_3 : List UInt8 := dkwX3_figures_3 ++ []
def dkwX3_figures_2 : List UInt8 := [27, 16, 10, 42, 180, 0, 33, 27, 46, 104, 42, 182, 0, 203, 96, 16, 48, 100, 79, 42, 89, 180, 0, 200]
abbrev dktX3_figures_2 : List UInt8 := dkwX3_figures_2 ++ dktX3_figures_3
def dkwX3_figures_1 : List UInt8 := [62, 29, 28, 162, 0, 56, 42, 182, 0, 203, 16, 48, 16, 57, 184, 0, 62, 153, 0, 42, 42, 180, 0, 33]
abbrev dktX3_figures_1 : List UInt8 := dkwX3_figures_1 ++ dktX3_figures_2
def dkwX3_figures_0 : List UInt8 := [42, 182, 0, 203, 16, 48, 16, 57, 184, 0, 62, 154, 0, 5, 3, 172, 42, 180, 0, 33, 27, 3, 79, 3]
abbrev dktX3_figures_0 : List UInt8 := dkwX3_figures_0 ++ dktX3_figures_1
theorem dksX3_figures_0 : cX3_figures.data.toList.drop 0 = dktX3_figures_0 := by decide +kernel
theorem dksX3_figures_1 : cX3_figures.data.toList.drop 24 = dktX3_figures_1 := dk_seg dksX3_figures_0 24 rfl rfl
theorem dksX3_figures_2 : cX3_figures.data.toList.drop 48 = dktX3_figures_2 := dk_seg dksX3_figures_1 24 rfl rfl
theorem dksX3_figures_3 : cX3_figures.data.toList.drop 72 = dktX3_figures_3 := dk_seg dksX3_figures_2 24 rfl rfl
theorem dX3_figures_0 : decode cX3_figures 0 = .ok (.aload_n 0, 1) := dk_42 (dk_at dksX3_figures_0 0 rfl rfl)
theorem dX3_figures_1 : decode cX3_figures 1 = .ok (.invokevirtual 203, 3) := dk_182 0 203 (dk_at dksX3_figures_0 1 rfl rfl)
theorem dX3_figures_4 : decode cX3_figures 4 = .ok (.bipush 48, 2) := dk_16 48 (dk_at dksX3_figures_0 4 rfl rfl)
theorem dX3_figures_6 : decode cX3_figures 6 = .ok (.bipush 57, 2) := dk_16 57 (dk_at dksX3_figures_0 6 rfl rfl)
theorem dX3_figures_8 : decode cX3_figures 8 = .ok (.invokestatic 62, 3) := dk_184 0 62 (dk_at dksX3_figures_0 8 rfl rfl)
theorem dX3_figures_11 : decode cX3_figures 11 = .ok (.ifCond .ne 5, 3) := dk_154 0 5 (dk_at dksX3_figures_0 11 rfl rfl)
theorem dX3_figures_14 : decode cX3_figures 14 = .ok (.iconst 0, 1) := dk_3 (dk_at dksX3_figures_0 14 rfl rfl)
theorem dX3_figures_15 : decode cX3_figures 15 = .ok (.ireturn, 1) := dk_172 (dk_at dksX3_figures_0 15 rfl rfl)
theorem dX3_figures_16 : decode cX3_figures 16 = .ok (.aload_n 0, 1) := dk_42 (dk_at dksX3_figures_0 16 rfl rfl)
theorem dX3_figures_17 : decode cX3_figures 17 = .ok (.getfield 33, 3) := dk_180 0 33 (dk_at dksX3_figures_0 17 rfl rfl)
theorem dX3_figures_20 : decode cX3_figures 20 = .ok (.iload_n 1, 1) := dk_27 (dk_at dksX3_figures_0 20 rfl rfl)
theorem dX3_figures_21 : decode cX3_figures 21 = .ok (.iconst 0, 1) := dk_3 (dk_at dksX3_figures_0 21 rfl rfl)
theorem dX3_figures_22 : decode cX3_figures 22 = .ok (.iastore, 1) := dk_79 (dk_at dksX3_figures_0 22 rfl rfl)
theorem dX3_figures_23 : decode cX3_figures 23 = .ok (.iconst 0, 1) := dk_3 (dk_at dksX3_figures_0 23 rfl rfl)
theorem dX3_figures_24 : decode cX3_figures 24 = .ok (.istore_n 3, 1) := dk_62 (dk_at dksX3_figures_1 0 rfl rfl)
theorem dX3_figures_25 : decode cX3_figures 25 = .ok (.iload_n 3, 1) := dk_29 (dk_at dksX3_figures_1 1 rfl rfl)
theorem dX3_figures_26 : decode cX3_figures 26 = .ok (.iload_n 2, 1) := dk_28 (dk_at dksX3_figures_1 2 rfl rfl)
theorem dX3_figures_27 : decode cX3_figures 27 = .ok (.if_icmp .ge 56, 3) := dk_162 0 56 (dk_at dksX3_figures_1 3 rfl rfl)
theorem dX3_figures_30 : decode cX3_figures 30 = .ok (.aload_n 0, 1) := dk_42 (dk_at dksX3_figures_1 6 rfl rfl)
theorem dX3_figures_31 : decode cX3_figures 31 = .ok (.invokevirtual 203, 3) := dk_182 0 203 (dk_at dksX3_figures_1 7 rfl rfl)
theorem dX3_figures_34 : decode cX3_figures 34 = .ok (.bipush 48, 2) := dk_16 48 (dk_at dksX3_figures_1 10 rfl rfl)
theorem dX3_figures_36 : decode cX3_figures 36 = .ok (.bipush 57, 2) := dk_16 57 (dk_at dksX3_figures_1 12 rfl rfl)
theorem dX3_figures_38 : decode cX3_figures 38 = .ok (.invokestatic 62, 3) := dk_184 0 62 (dk_at dksX3_figures_1 14 rfl rfl)
theorem dX3_figures_41 : decode cX3_figures 41 = .ok (.ifCond .eq 42, 3) := dk_153 0 42 (dk_at dksX3_figures_1 17 rfl rfl)
theorem dX3_figures_44 : decode cX3_figures 44 = .ok (.aload_n 0, 1) := dk_42 (dk_at dksX3_figures_1 20 rfl rfl)
theorem dX3_figures_45 : decode cX3_figures 45 = .ok (.getfield 33, 3) := dk_180 0 33 (dk_at dksX3_figures_1 21 rfl rfl)
theorem dX3_figures_48 : decode cX3_figures 48 = .ok (.iload_n 1, 1) := dk_27 (dk_at dksX3_figures_2 0 rfl rfl)
theorem dX3_figures_49 : decode cX3_figures 49 = .ok (.bipush 10, 2) := dk_16 10 (dk_at dksX3_figures_2 1 rfl rfl)
theorem dX3_figures_51 : decode cX3_figures 51 = .ok (.aload_n 0, 1) := dk_42 (dk_at dksX3_figures_2 3 rfl rfl)
theorem dX3_figures_52 : decode cX3_figures 52 = .ok (.getfield 33, 3) := dk_180 0 33 (dk_at dksX3_figures_2 4 rfl rfl)
theorem dX3_figures_55 : decode cX3_figures 55 = .ok (.iload_n 1, 1) := dk_27 (dk_at dksX3_figures_2 7 rfl rfl)
theorem dX3_figures_56 : decode cX3_figures 56 = .ok (.iaload, 1) := dk_46 (dk_at dksX3_figures_2 8 rfl rfl)
theorem dX3_figures_57 : decode cX3_figures 57 = .ok (.imul, 1) := dk_104 (dk_at dksX3_figures_2 9 rfl rfl)
theorem dX3_figures_58 : decode cX3_figures 58 = .ok (.aload_n 0, 1) := dk_42 (dk_at dksX3_figures_2 10 rfl rfl)
theorem dX3_figures_59 : decode cX3_figures 59 = .ok (.invokevirtual 203, 3) := dk_182 0 203 (dk_at dksX3_figures_2 11 rfl rfl)
theorem dX3_figures_62 : decode cX3_figures 62 = .ok (.iadd, 1) := dk_96 (dk_at dksX3_figures_2 14 rfl rfl)
theorem dX3_figures_63 : decode cX3_figures 63 = .ok (.bipush 48, 2) := dk_16 48 (dk_at dksX3_figures_2 15 rfl rfl)
theorem dX3_figures_65 : decode cX3_figures 65 = .ok (.isub, 1) := dk_100 (dk_at dksX3_figures_2 17 rfl rfl)
theorem dX3_figures_66 : decode cX3_figures 66 = .ok (.iastore, 1) := dk_79 (dk_at dksX3_figures_2 18 rfl rfl)
theorem dX3_figures_67 : decode cX3_figures 67 = .ok (.aload_n 0, 1) := dk_42 (dk_at dksX3_figures_2 19 rfl rfl)
theorem dX3_figures_68 : decode cX3_figures 68 = .ok (.dup, 1) := dk_89 (dk_at dksX3_figures_2 20 rfl rfl)
theorem dX3_figures_69 : decode cX3_figures 69 = .ok (.getfield 200, 3) := dk_180 0 200 (dk_at dksX3_figures_2 21 rfl rfl)
theorem dX3_figures_72 : decode cX3_figures 72 = .ok (.iconst 1, 1) := dk_4 (dk_at dksX3_figures_3 0 rfl rfl)
theorem dX3_figures_73 : decode cX3_figures 73 = .ok (.iadd, 1) := dk_96 (dk_at dksX3_figures_3 1 rfl rfl)
theorem dX3_figures_74 : decode cX3_figures 74 = .ok (.putfield 200, 3) := dk_181 0 200 (dk_at dksX3_figures_3 2 rfl rfl)
theorem dX3_figures_77 : decode cX3_figures 77 = .ok (.iinc 3 1, 3) := dk_132 3 1 (dk_at dksX3_figures_3 5 rfl rfl)
theorem dX3_figures_80 : decode cX3_figures 80 = .ok (.goto (-55), 3) := dk_167 255 201 (dk_at dksX3_figures_3 8 rfl rfl)
theorem dX3_figures_83 : decode cX3_figures 83 = .ok (.iconst 1, 1) := dk_4 (dk_at dksX3_figures_3 11 rfl rfl)
theorem dX3_figures_84 : decode cX3_figures 84 = .ok (.ireturn, 1) := dk_172 (dk_at dksX3_figures_3 12 rfl rfl)
def dkwX3_kindHere_1 : List UInt8 := [182, 0, 206, 154, 0, 12, 42, 16, 104, 182, 0, 206, 153, 0, 7, 4, 167, 0, 4, 3, 172]
abbrev dktX3_kindHere_1 : List UInt8 := dkwX3_kindHere_1 ++ []
def dkwX3_kindHere_0 : List UInt8 := [42, 180, 0, 33, 27, 42, 182, 0, 203, 79, 42, 16, 100, 182, 0, 206, 154, 0, 21, 42, 16, 115]
abbrev dktX3_kindHere_0 : List UInt8 := dkwX3_kindHere_0 ++ dktX3_kindHere_1
theorem dksX3_kindHere_0 : cX3_kindHere.data.toList.drop 0 = dktX3_kindHere_0 := by decide +kernel
theorem dksX3_kindHere_1 : cX3_kindHere.data.toList.drop 22 = dktX3_kindHere_1 := dk_seg dksX3_kindHere_0 22 rfl rfl
theorem dX3_kindHere_0 : decode cX3_kindHere 0 = .ok (.aload_n 0, 1) := dk_42 (dk_at dksX3_kindHere_0 0 rfl rfl)
theorem dX3_kindHere_1 : decode cX3_kindHere 1 = .ok (.getfield 33, 3) := dk_180 0 33 (dk_at dksX3_kindHere_0 1 rfl rfl)
theorem dX3_kindHere_4 : decode cX3_kindHere 4 = .ok (.iload_n 1, 1) := dk_27 (dk_at dksX3_kindHere_0 4 rfl rfl)
theorem dX3_kindHere_5 : decode cX3_kindHere 5 = .ok (.aload_n 0, 1) := dk_42 (dk_at dksX3_kindHere_0 5 rfl rfl)
theorem dX3_kindHere_6 : decode cX3_kindHere 6 = .ok (.invokevirtual 203, 3) := dk_182 0 203 (dk_at dksX3_kindHere_0 6 rfl rfl)
theorem dX3_kindHere_9 : decode cX3_kindHere 9 = .ok (.iastore, 1) := dk_79 (dk_at dksX3_kindHere_0 9 rfl rfl)
theorem dX3_kindHere_10 : decode cX3_kindHere 10 = .ok (.aload_n 0, 1) := dk_42 (dk_at dksX3_kindHere_0 10 rfl rfl)
theorem dX3_kindHere_11 : decode cX3_kindHere 11 = .ok (.bipush 100, 2) := dk_16 100 (dk_at dksX3_kindHere_0 11 rfl rfl)
theorem dX3_kindHere_13 : decode cX3_kindHere 13 = .ok (.invokevirtual 206, 3) := dk_182 0 206 (dk_at dksX3_kindHere_0 13 rfl rfl)
theorem dX3_kindHere_16 : decode cX3_kindHere 16 = .ok (.ifCond .ne 21, 3) := dk_154 0 21 (dk_at dksX3_kindHere_0 16 rfl rfl)
theorem dX3_kindHere_19 : decode cX3_kindHere 19 = .ok (.aload_n 0, 1) := dk_42 (dk_at dksX3_kindHere_0 19 rfl rfl)
theorem dX3_kindHere_20 : decode cX3_kindHere 20 = .ok (.bipush 115, 2) := dk_16 115 (dk_at dksX3_kindHere_0 20 rfl rfl)
theorem dX3_kindHere_22 : decode cX3_kindHere 22 = .ok (.invokevirtual 206, 3) := dk_182 0 206 (dk_at dksX3_kindHere_1 0 rfl rfl)
theorem dX3_kindHere_25 : decode cX3_kindHere 25 = .ok (.ifCond .ne 12, 3) := dk_154 0 12 (dk_at dksX3_kindHere_1 3 rfl rfl)
theorem dX3_kindHere_28 : decode cX3_kindHere 28 = .ok (.aload_n 0, 1) := dk_42 (dk_at dksX3_kindHere_1 6 rfl rfl)
theorem dX3_kindHere_29 : decode cX3_kindHere 29 = .ok (.bipush 104, 2) := dk_16 104 (dk_at dksX3_kindHere_1 7 rfl rfl)
theorem dX3_kindHere_31 : decode cX3_kindHere 31 = .ok (.invokevirtual 206, 3) := dk_182 0 206 (dk_at dksX3_kindHere_1 9 rfl rfl)
theorem dX3_kindHere_34 : decode cX3_kindHere 34 = .ok (.ifCond .eq 7, 3) := dk_153 0 7 (dk_at dksX3_kindHere_1 12 rfl rfl)
theorem dX3_kindHere_37 : decode cX3_kindHere 37 = .ok (.iconst 1, 1) := dk_4 (dk_at dksX3_kindHere_1 15 rfl rfl)
theorem dX3_kindHere_38 : decode cX3_kindHere 38 = .ok (.goto 4, 3) := dk_167 0 4 (dk_at dksX3_kindHere_1 16 rfl rfl)
theorem dX3_kindHere_41 : decode cX3_kindHere 41 = .ok (.iconst 0, 1) := dk_3 (dk_at dksX3_kindHere_1 19 rfl rfl)
theorem dX3_kindHere_42 : decode cX3_kindHere 42 = .ok (.ireturn, 1) := dk_172 (dk_at dksX3_kindHere_1 20 rfl rfl)
def dkwX3_carries_5 : List UInt8 := [96, 46, 182, 0, 247, 172, 42, 28, 182, 0, 250, 172]
abbrev dktX3_carries_5 : List UInt8 := dkwX3_carries_5 ++ []
def dkwX3_carries_4 : List UInt8 := [182, 0, 238, 172, 42, 28, 182, 0, 241, 172, 42, 28, 182, 0, 244, 172, 42, 28, 42, 180, 0, 33, 27, 5]
abbrev dktX3_carries_4 : List UInt8 := dkwX3_carries_4 ++ dktX3_carries_5
def dkwX3_carries_3 : List UInt8 := [5, 96, 46, 146, 42, 180, 0, 33, 27, 6, 96, 46, 182, 0, 231, 172, 42, 28, 182, 0, 235, 172, 42, 28]
abbrev dktX3_carries_3 : List UInt8 := dkwX3_carries_3 ++ dktX3_carries_4
def dkwX3_carries_2 : List UInt8 := [42, 182, 0, 222, 172, 42, 28, 182, 0, 225, 172, 42, 28, 182, 0, 228, 172, 42, 28, 42, 180, 0, 33, 27]
abbrev dktX3_carries_2 : List UInt8 := dkwX3_carries_2 ++ dktX3_carries_3
def dkwX3_carries_1 : List UInt8 := [170, 0, 0, 0, 155, 0, 0, 0, 97, 0, 0, 0, 112, 0, 0, 0, 94, 0, 0, 0, 88, 0, 0, 0, 82, 0, 0, 0, 155, 0, 0, 0, 129, 0, 0, 0, 77, 0, 0, 0, 141, 0, 0, 0, 155, 0, 0, 0, 155, 0, 0, 0, 155, 0, 0, 0, 135, 0, 0, 0, 155, 0, 0, 0, 155, 0, 0, 0, 123, 0, 0, 0, 155, 0, 0, 0, 117]
abbrev dktX3_carries_1 : List UInt8 := dkwX3_carries_1 ++ dktX3_carries_2
def dkwX3_carries_0 : List UInt8 := [42, 180, 0, 33, 27, 4, 96, 46, 61, 42, 180, 0, 33, 27, 46]
abbrev dktX3_carries_0 : List UInt8 := dkwX3_carries_0 ++ dktX3_carries_1
theorem dksX3_carries_0 : cX3_carries.data.toList.drop 0 = dktX3_carries_0 := by decide +kernel
theorem dksX3_carries_1 : cX3_carries.data.toList.drop 15 = dktX3_carries_1 := dk_seg dksX3_carries_0 15 rfl rfl
theorem dksX3_carries_2 : cX3_carries.data.toList.drop 92 = dktX3_carries_2 := dk_seg dksX3_carries_1 77 rfl rfl
theorem dksX3_carries_3 : cX3_carries.data.toList.drop 116 = dktX3_carries_3 := dk_seg dksX3_carries_2 24 rfl rfl
theorem dksX3_carries_4 : cX3_carries.data.toList.drop 140 = dktX3_carries_4 := dk_seg dksX3_carries_3 24 rfl rfl
theorem dksX3_carries_5 : cX3_carries.data.toList.drop 164 = dktX3_carries_5 := dk_seg dksX3_carries_4 24 rfl rfl
theorem dX3_carries_0 : decode cX3_carries 0 = .ok (.aload_n 0, 1) := dk_42 (dk_at dksX3_carries_0 0 rfl rfl)
theorem dX3_carries_1 : decode cX3_carries 1 = .ok (.getfield 33, 3) := dk_180 0 33 (dk_at dksX3_carries_0 1 rfl rfl)
theorem dX3_carries_4 : decode cX3_carries 4 = .ok (.iload_n 1, 1) := dk_27 (dk_at dksX3_carries_0 4 rfl rfl)
theorem dX3_carries_5 : decode cX3_carries 5 = .ok (.iconst 1, 1) := dk_4 (dk_at dksX3_carries_0 5 rfl rfl)
theorem dX3_carries_6 : decode cX3_carries 6 = .ok (.iadd, 1) := dk_96 (dk_at dksX3_carries_0 6 rfl rfl)
theorem dX3_carries_7 : decode cX3_carries 7 = .ok (.iaload, 1) := dk_46 (dk_at dksX3_carries_0 7 rfl rfl)
theorem dX3_carries_8 : decode cX3_carries 8 = .ok (.istore_n 2, 1) := dk_61 (dk_at dksX3_carries_0 8 rfl rfl)
theorem dX3_carries_9 : decode cX3_carries 9 = .ok (.aload_n 0, 1) := dk_42 (dk_at dksX3_carries_0 9 rfl rfl)
theorem dX3_carries_10 : decode cX3_carries 10 = .ok (.getfield 33, 3) := dk_180 0 33 (dk_at dksX3_carries_0 10 rfl rfl)
theorem dX3_carries_13 : decode cX3_carries 13 = .ok (.iload_n 1, 1) := dk_27 (dk_at dksX3_carries_0 13 rfl rfl)
theorem dX3_carries_14 : decode cX3_carries 14 = .ok (.iaload, 1) := dk_46 (dk_at dksX3_carries_0 14 rfl rfl)
theorem dX3_carries_15 : decode cX3_carries 15 = .ok (.tableswitch 155 97 112 #[94, 88, 82, 155, 129, 77, 141, 155, 155, 155, 135, 155, 155, 123, 155, 117], 77) := by decide +kernel
theorem dX3_carries_92 : decode cX3_carries 92 = .ok (.aload_n 0, 1) := dk_42 (dk_at dksX3_carries_2 0 rfl rfl)
theorem dX3_carries_93 : decode cX3_carries 93 = .ok (.invokevirtual 222, 3) := dk_182 0 222 (dk_at dksX3_carries_2 1 rfl rfl)
theorem dX3_carries_96 : decode cX3_carries 96 = .ok (.ireturn, 1) := dk_172 (dk_at dksX3_carries_2 4 rfl rfl)
theorem dX3_carries_97 : decode cX3_carries 97 = .ok (.aload_n 0, 1) := dk_42 (dk_at dksX3_carries_2 5 rfl rfl)
theorem dX3_carries_98 : decode cX3_carries 98 = .ok (.iload_n 2, 1) := dk_28 (dk_at dksX3_carries_2 6 rfl rfl)
theorem dX3_carries_99 : decode cX3_carries 99 = .ok (.invokevirtual 225, 3) := dk_182 0 225 (dk_at dksX3_carries_2 7 rfl rfl)
theorem dX3_carries_102 : decode cX3_carries 102 = .ok (.ireturn, 1) := dk_172 (dk_at dksX3_carries_2 10 rfl rfl)
theorem dX3_carries_103 : decode cX3_carries 103 = .ok (.aload_n 0, 1) := dk_42 (dk_at dksX3_carries_2 11 rfl rfl)
theorem dX3_carries_104 : decode cX3_carries 104 = .ok (.iload_n 2, 1) := dk_28 (dk_at dksX3_carries_2 12 rfl rfl)
theorem dX3_carries_105 : decode cX3_carries 105 = .ok (.invokevirtual 228, 3) := dk_182 0 228 (dk_at dksX3_carries_2 13 rfl rfl)
theorem dX3_carries_108 : decode cX3_carries 108 = .ok (.ireturn, 1) := dk_172 (dk_at dksX3_carries_2 16 rfl rfl)
theorem dX3_carries_109 : decode cX3_carries 109 = .ok (.aload_n 0, 1) := dk_42 (dk_at dksX3_carries_2 17 rfl rfl)
theorem dX3_carries_110 : decode cX3_carries 110 = .ok (.iload_n 2, 1) := dk_28 (dk_at dksX3_carries_2 18 rfl rfl)
theorem dX3_carries_111 : decode cX3_carries 111 = .ok (.aload_n 0, 1) := dk_42 (dk_at dksX3_carries_2 19 rfl rfl)
theorem dX3_carries_112 : decode cX3_carries 112 = .ok (.getfield 33, 3) := dk_180 0 33 (dk_at dksX3_carries_2 20 rfl rfl)
theorem dX3_carries_115 : decode cX3_carries 115 = .ok (.iload_n 1, 1) := dk_27 (dk_at dksX3_carries_2 23 rfl rfl)
theorem dX3_carries_116 : decode cX3_carries 116 = .ok (.iconst 2, 1) := dk_5 (dk_at dksX3_carries_3 0 rfl rfl)
theorem dX3_carries_117 : decode cX3_carries 117 = .ok (.iadd, 1) := dk_96 (dk_at dksX3_carries_3 1 rfl rfl)
theorem dX3_carries_118 : decode cX3_carries 118 = .ok (.iaload, 1) := dk_46 (dk_at dksX3_carries_3 2 rfl rfl)
theorem dX3_carries_119 : decode cX3_carries 119 = .ok (.i2c, 1) := dk_146 (dk_at dksX3_carries_3 3 rfl rfl)
theorem dX3_carries_120 : decode cX3_carries 120 = .ok (.aload_n 0, 1) := dk_42 (dk_at dksX3_carries_3 4 rfl rfl)
theorem dX3_carries_121 : decode cX3_carries 121 = .ok (.getfield 33, 3) := dk_180 0 33 (dk_at dksX3_carries_3 5 rfl rfl)
theorem dX3_carries_124 : decode cX3_carries 124 = .ok (.iload_n 1, 1) := dk_27 (dk_at dksX3_carries_3 8 rfl rfl)
theorem dX3_carries_125 : decode cX3_carries 125 = .ok (.iconst 3, 1) := dk_6 (dk_at dksX3_carries_3 9 rfl rfl)
theorem dX3_carries_126 : decode cX3_carries 126 = .ok (.iadd, 1) := dk_96 (dk_at dksX3_carries_3 10 rfl rfl)
theorem dX3_carries_127 : decode cX3_carries 127 = .ok (.iaload, 1) := dk_46 (dk_at dksX3_carries_3 11 rfl rfl)
theorem dX3_carries_128 : decode cX3_carries 128 = .ok (.invokevirtual 231, 3) := dk_182 0 231 (dk_at dksX3_carries_3 12 rfl rfl)
theorem dX3_carries_131 : decode cX3_carries 131 = .ok (.ireturn, 1) := dk_172 (dk_at dksX3_carries_3 15 rfl rfl)
theorem dX3_carries_132 : decode cX3_carries 132 = .ok (.aload_n 0, 1) := dk_42 (dk_at dksX3_carries_3 16 rfl rfl)
theorem dX3_carries_133 : decode cX3_carries 133 = .ok (.iload_n 2, 1) := dk_28 (dk_at dksX3_carries_3 17 rfl rfl)
theorem dX3_carries_134 : decode cX3_carries 134 = .ok (.invokevirtual 235, 3) := dk_182 0 235 (dk_at dksX3_carries_3 18 rfl rfl)
theorem dX3_carries_137 : decode cX3_carries 137 = .ok (.ireturn, 1) := dk_172 (dk_at dksX3_carries_3 21 rfl rfl)
theorem dX3_carries_138 : decode cX3_carries 138 = .ok (.aload_n 0, 1) := dk_42 (dk_at dksX3_carries_3 22 rfl rfl)
theorem dX3_carries_139 : decode cX3_carries 139 = .ok (.iload_n 2, 1) := dk_28 (dk_at dksX3_carries_3 23 rfl rfl)
theorem dX3_carries_140 : decode cX3_carries 140 = .ok (.invokevirtual 238, 3) := dk_182 0 238 (dk_at dksX3_carries_4 0 rfl rfl)
theorem dX3_carries_143 : decode cX3_carries 143 = .ok (.ireturn, 1) := dk_172 (dk_at dksX3_carries_4 3 rfl rfl)
theorem dX3_carries_144 : decode cX3_carries 144 = .ok (.aload_n 0, 1) := dk_42 (dk_at dksX3_carries_4 4 rfl rfl)
theorem dX3_carries_145 : decode cX3_carries 145 = .ok (.iload_n 2, 1) := dk_28 (dk_at dksX3_carries_4 5 rfl rfl)
theorem dX3_carries_146 : decode cX3_carries 146 = .ok (.invokevirtual 241, 3) := dk_182 0 241 (dk_at dksX3_carries_4 6 rfl rfl)
theorem dX3_carries_149 : decode cX3_carries 149 = .ok (.ireturn, 1) := dk_172 (dk_at dksX3_carries_4 9 rfl rfl)
theorem dX3_carries_150 : decode cX3_carries 150 = .ok (.aload_n 0, 1) := dk_42 (dk_at dksX3_carries_4 10 rfl rfl)
theorem dX3_carries_151 : decode cX3_carries 151 = .ok (.iload_n 2, 1) := dk_28 (dk_at dksX3_carries_4 11 rfl rfl)
theorem dX3_carries_152 : decode cX3_carries 152 = .ok (.invokevirtual 244, 3) := dk_182 0 244 (dk_at dksX3_carries_4 12 rfl rfl)
theorem dX3_carries_155 : decode cX3_carries 155 = .ok (.ireturn, 1) := dk_172 (dk_at dksX3_carries_4 15 rfl rfl)
theorem dX3_carries_156 : decode cX3_carries 156 = .ok (.aload_n 0, 1) := dk_42 (dk_at dksX3_carries_4 16 rfl rfl)
theorem dX3_carries_157 : decode cX3_carries 157 = .ok (.iload_n 2, 1) := dk_28 (dk_at dksX3_carries_4 17 rfl rfl)
theorem dX3_carries_158 : decode cX3_carries 158 = .ok (.aload_n 0, 1) := dk_42 (dk_at dksX3_carries_4 18 rfl rfl)
theorem dX3_carries_159 : decode cX3_carries 159 = .ok (.getfield 33, 3) := dk_180 0 33 (dk_at dksX3_carries_4 19 rfl rfl)
theorem dX3_carries_162 : decode cX3_carries 162 = .ok (.iload_n 1, 1) := dk_27 (dk_at dksX3_carries_4 22 rfl rfl)
theorem dX3_carries_163 : decode cX3_carries 163 = .ok (.iconst 2, 1) := dk_5 (dk_at dksX3_carries_4 23 rfl rfl)
theorem dX3_carries_164 : decode cX3_carries 164 = .ok (.iadd, 1) := dk_96 (dk_at dksX3_carries_5 0 rfl rfl)
theorem dX3_carries_165 : decode cX3_carries 165 = .ok (.iaload, 1) := dk_46 (dk_at dksX3_carries_5 1 rfl rfl)
theorem dX3_carries_166 : decode cX3_carries 166 = .ok (.invokevirtual 247, 3) := dk_182 0 247 (dk_at dksX3_carries_5 2 rfl rfl)
theorem dX3_carries_169 : decode cX3_carries 169 = .ok (.ireturn, 1) := dk_172 (dk_at dksX3_carries_5 5 rfl rfl)
theorem dX3_carries_170 : decode cX3_carries 170 = .ok (.aload_n 0, 1) := dk_42 (dk_at dksX3_carries_5 6 rfl rfl)
theorem dX3_carries_171 : decode cX3_carries 171 = .ok (.iload_n 2, 1) := dk_28 (dk_at dksX3_carries_5 7 rfl rfl)
theorem dX3_carries_172 : decode cX3_carries 172 = .ok (.invokevirtual 250, 3) := dk_182 0 250 (dk_at dksX3_carries_5 8 rfl rfl)
theorem dX3_carries_175 : decode cX3_carries 175 = .ok (.ireturn, 1) := dk_172 (dk_at dksX3_carries_5 11 rfl rfl)
def dkwX3_rejectsInput_0 : List UInt8 := [42, 180, 0, 43, 61, 42, 6, 16, 12, 27, 182, 0, 70, 87, 42, 28, 181, 0, 49, 3, 172]
abbrev dktX3_rejectsInput_0 : List UInt8 := dkwX3_rejectsInput_0 ++ []
theorem dksX3_rejectsInput_0 : cX3_rejectsInput.data.toList.drop 0 = dktX3_rejectsInput_0 := by decide +kernel
theorem dX3_rejectsInput_0 : decode cX3_rejectsInput 0 = .ok (.aload_n 0, 1) := dk_42 (dk_at dksX3_rejectsInput_0 0 rfl rfl)
theorem dX3_rejectsInput_1 : decode cX3_rejectsInput 1 = .ok (.getfield 43, 3) := dk_180 0 43 (dk_at dksX3_rejectsInput_0 1 rfl rfl)
theorem dX3_rejectsInput_4 : decode cX3_rejectsInput 4 = .ok (.istore_n 2, 1) := dk_61 (dk_at dksX3_rejectsInput_0 4 rfl rfl)
theorem dX3_rejectsInput_5 : decode cX3_rejectsInput 5 = .ok (.aload_n 0, 1) := dk_42 (dk_at dksX3_rejectsInput_0 5 rfl rfl)
theorem dX3_rejectsInput_6 : decode cX3_rejectsInput 6 = .ok (.iconst 3, 1) := dk_6 (dk_at dksX3_rejectsInput_0 6 rfl rfl)
theorem dX3_rejectsInput_7 : decode cX3_rejectsInput 7 = .ok (.bipush 12, 2) := dk_16 12 (dk_at dksX3_rejectsInput_0 7 rfl rfl)
theorem dX3_rejectsInput_9 : decode cX3_rejectsInput 9 = .ok (.iload_n 1, 1) := dk_27 (dk_at dksX3_rejectsInput_0 9 rfl rfl)
theorem dX3_rejectsInput_10 : decode cX3_rejectsInput 10 = .ok (.invokevirtual 70, 3) := dk_182 0 70 (dk_at dksX3_rejectsInput_0 10 rfl rfl)
theorem dX3_rejectsInput_13 : decode cX3_rejectsInput 13 = .ok (.pop, 1) := dk_87 (dk_at dksX3_rejectsInput_0 13 rfl rfl)
theorem dX3_rejectsInput_14 : decode cX3_rejectsInput 14 = .ok (.aload_n 0, 1) := dk_42 (dk_at dksX3_rejectsInput_0 14 rfl rfl)
theorem dX3_rejectsInput_15 : decode cX3_rejectsInput 15 = .ok (.iload_n 2, 1) := dk_28 (dk_at dksX3_rejectsInput_0 15 rfl rfl)
theorem dX3_rejectsInput_16 : decode cX3_rejectsInput 16 = .ok (.putfield 49, 3) := dk_181 0 49 (dk_at dksX3_rejectsInput_0 16 rfl rfl)
theorem dX3_rejectsInput_19 : decode cX3_rejectsInput 19 = .ok (.iconst 0, 1) := dk_3 (dk_at dksX3_rejectsInput_0 19 rfl rfl)
theorem dX3_rejectsInput_20 : decode cX3_rejectsInput 20 = .ok (.ireturn, 1) := dk_172 (dk_at dksX3_rejectsInput_0 20 rfl rfl)
def dkwX3_syntaxErrorOffset_1 : List UInt8 := [180, 0, 25, 172]
abbrev dktX3_syntaxErrorOffset_1 : List UInt8 := dkwX3_syntaxErrorOffset_1 ++ []
def dkwX3_syntaxErrorOffset_0 : List UInt8 := [42, 42, 180, 0, 25, 156, 0, 7, 4, 167, 0, 4, 3, 182, 0, 82, 153, 0, 7, 3, 167, 0, 7, 42]
abbrev dktX3_syntaxErrorOffset_0 : List UInt8 := dkwX3_syntaxErrorOffset_0 ++ dktX3_syntaxErrorOffset_1
theorem dksX3_syntaxErrorOffset_0 : cX3_syntaxErrorOffset.data.toList.drop 0 = dktX3_syntaxErrorOffset_0 := by decide +kernel
theorem dksX3_syntaxErrorOffset_1 : cX3_syntaxErrorOffset.data.toList.drop 24 = dktX3_syntaxErrorOffset_1 := dk_seg dksX3_syntaxErrorOffset_0 24 rfl rfl
theorem dX3_syntaxErrorOffset_0 : decode cX3_syntaxErrorOffset 0 = .ok (.aload_n 0, 1) := dk_42 (dk_at dksX3_syntaxErrorOffset_0 0 rfl rfl)
theorem dX3_syntaxErrorOffset_1 : decode cX3_syntaxErrorOffset 1 = .ok (.aload_n 0, 1) := dk_42 (dk_at dksX3_syntaxErrorOffset_0 1 rfl rfl)
theorem dX3_syntaxErrorOffset_2 : decode cX3_syntaxErrorOffset 2 = .ok (.getfield 25, 3) := dk_180 0 25 (dk_at dksX3_syntaxErrorOffset_0 2 rfl rfl)
theorem dX3_syntaxErrorOffset_5 : decode cX3_syntaxErrorOffset 5 = .ok (.ifCond .ge 7, 3) := dk_156 0 7 (dk_at dksX3_syntaxErrorOffset_0 5 rfl rfl)
theorem dX3_syntaxErrorOffset_8 : decode cX3_syntaxErrorOffset 8 = .ok (.iconst 1, 1) := dk_4 (dk_at dksX3_syntaxErrorOffset_0 8 rfl rfl)
theorem dX3_syntaxErrorOffset_9 : decode cX3_syntaxErrorOffset 9 = .ok (.goto 4, 3) := dk_167 0 4 (dk_at dksX3_syntaxErrorOffset_0 9 rfl rfl)
theorem dX3_syntaxErrorOffset_12 : decode cX3_syntaxErrorOffset 12 = .ok (.iconst 0, 1) := dk_3 (dk_at dksX3_syntaxErrorOffset_0 12 rfl rfl)
theorem dX3_syntaxErrorOffset_13 : decode cX3_syntaxErrorOffset 13 = .ok (.invokevirtual 82, 3) := dk_182 0 82 (dk_at dksX3_syntaxErrorOffset_0 13 rfl rfl)
theorem dX3_syntaxErrorOffset_16 : decode cX3_syntaxErrorOffset 16 = .ok (.ifCond .eq 7, 3) := dk_153 0 7 (dk_at dksX3_syntaxErrorOffset_0 16 rfl rfl)
theorem dX3_syntaxErrorOffset_19 : decode cX3_syntaxErrorOffset 19 = .ok (.iconst 0, 1) := dk_3 (dk_at dksX3_syntaxErrorOffset_0 19 rfl rfl)
theorem dX3_syntaxErrorOffset_20 : decode cX3_syntaxErrorOffset 20 = .ok (.goto 7, 3) := dk_167 0 7 (dk_at dksX3_syntaxErrorOffset_0 20 rfl rfl)
theorem dX3_syntaxErrorOffset_23 : decode cX3_syntaxErrorOffset 23 = .ok (.aload_n 0, 1) := dk_42 (dk_at dksX3_syntaxErrorOffset_0 23 rfl rfl)
theorem dX3_syntaxErrorOffset_24 : decode cX3_syntaxErrorOffset 24 = .ok (.getfield 25, 3) := dk_180 0 25 (dk_at dksX3_syntaxErrorOffset_1 0 rfl rfl)
theorem dX3_syntaxErrorOffset_27 : decode cX3_syntaxErrorOffset 27 = .ok (.ireturn, 1) := dk_172 (dk_at dksX3_syntaxErrorOffset_1 3 rfl rfl)
def dkwX3_rejectionReason_1 : List UInt8 := [180, 0, 43, 172]
abbrev dktX3_rejectionReason_1 : List UInt8 := dkwX3_rejectionReason_1 ++ []
def dkwX3_rejectionReason_0 : List UInt8 := [42, 42, 180, 0, 43, 154, 0, 7, 4, 167, 0, 4, 3, 182, 0, 82, 153, 0, 7, 3, 167, 0, 7, 42]
abbrev dktX3_rejectionReason_0 : List UInt8 := dkwX3_rejectionReason_0 ++ dktX3_rejectionReason_1
theorem dksX3_rejectionReason_0 : cX3_rejectionReason.data.toList.drop 0 = dktX3_rejectionReason_0 := by decide +kernel
theorem dksX3_rejectionReason_1 : cX3_rejectionReason.data.toList.drop 24 = dktX3_rejectionReason_1 := dk_seg dksX3_rejectionReason_0 24 rfl rfl
theorem dX3_rejectionReason_0 : decode cX3_rejectionReason 0 = .ok (.aload_n 0, 1) := dk_42 (dk_at dksX3_rejectionReason_0 0 rfl rfl)
theorem dX3_rejectionReason_1 : decode cX3_rejectionReason 1 = .ok (.aload_n 0, 1) := dk_42 (dk_at dksX3_rejectionReason_0 1 rfl rfl)
theorem dX3_rejectionReason_2 : decode cX3_rejectionReason 2 = .ok (.getfield 43, 3) := dk_180 0 43 (dk_at dksX3_rejectionReason_0 2 rfl rfl)
theorem dX3_rejectionReason_5 : decode cX3_rejectionReason 5 = .ok (.ifCond .ne 7, 3) := dk_154 0 7 (dk_at dksX3_rejectionReason_0 5 rfl rfl)
theorem dX3_rejectionReason_8 : decode cX3_rejectionReason 8 = .ok (.iconst 1, 1) := dk_4 (dk_at dksX3_rejectionReason_0 8 rfl rfl)
theorem dX3_rejectionReason_9 : decode cX3_rejectionReason 9 = .ok (.goto 4, 3) := dk_167 0 4 (dk_at dksX3_rejectionReason_0 9 rfl rfl)
theorem dX3_rejectionReason_12 : decode cX3_rejectionReason 12 = .ok (.iconst 0, 1) := dk_3 (dk_at dksX3_rejectionReason_0 12 rfl rfl)
theorem dX3_rejectionReason_13 : decode cX3_rejectionReason 13 = .ok (.invokevirtual 82, 3) := dk_182 0 82 (dk_at dksX3_rejectionReason_0 13 rfl rfl)
theorem dX3_rejectionReason_16 : decode cX3_rejectionReason 16 = .ok (.ifCond .eq 7, 3) := dk_153 0 7 (dk_at dksX3_rejectionReason_0 16 rfl rfl)
theorem dX3_rejectionReason_19 : decode cX3_rejectionReason 19 = .ok (.iconst 0, 1) := dk_3 (dk_at dksX3_rejectionReason_0 19 rfl rfl)
theorem dX3_rejectionReason_20 : decode cX3_rejectionReason 20 = .ok (.goto 7, 3) := dk_167 0 7 (dk_at dksX3_rejectionReason_0 20 rfl rfl)
theorem dX3_rejectionReason_23 : decode cX3_rejectionReason 23 = .ok (.aload_n 0, 1) := dk_42 (dk_at dksX3_rejectionReason_0 23 rfl rfl)
theorem dX3_rejectionReason_24 : decode cX3_rejectionReason 24 = .ok (.getfield 43, 3) := dk_180 0 43 (dk_at dksX3_rejectionReason_1 0 rfl rfl)
theorem dX3_rejectionReason_27 : decode cX3_rejectionReason 27 = .ok (.ireturn, 1) := dk_172 (dk_at dksX3_rejectionReason_1 3 rfl rfl)
def dkwX3_rejectionDetail_1 : List UInt8 := [180, 0, 46, 172]
abbrev dktX3_rejectionDetail_1 : List UInt8 := dkwX3_rejectionDetail_1 ++ []
def dkwX3_rejectionDetail_0 : List UInt8 := [42, 42, 180, 0, 43, 154, 0, 7, 4, 167, 0, 4, 3, 182, 0, 82, 153, 0, 7, 3, 167, 0, 7, 42]
abbrev dktX3_rejectionDetail_0 : List UInt8 := dkwX3_rejectionDetail_0 ++ dktX3_rejectionDetail_1
theorem dksX3_rejectionDetail_0 : cX3_rejectionDetail.data.toList.drop 0 = dktX3_rejectionDetail_0 := by decide +kernel
theorem dksX3_rejectionDetail_1 : cX3_rejectionDetail.data.toList.drop 24 = dktX3_rejectionDetail_1 := dk_seg dksX3_rejectionDetail_0 24 rfl rfl
theorem dX3_rejectionDetail_0 : decode cX3_rejectionDetail 0 = .ok (.aload_n 0, 1) := dk_42 (dk_at dksX3_rejectionDetail_0 0 rfl rfl)
theorem dX3_rejectionDetail_1 : decode cX3_rejectionDetail 1 = .ok (.aload_n 0, 1) := dk_42 (dk_at dksX3_rejectionDetail_0 1 rfl rfl)
theorem dX3_rejectionDetail_2 : decode cX3_rejectionDetail 2 = .ok (.getfield 43, 3) := dk_180 0 43 (dk_at dksX3_rejectionDetail_0 2 rfl rfl)
theorem dX3_rejectionDetail_5 : decode cX3_rejectionDetail 5 = .ok (.ifCond .ne 7, 3) := dk_154 0 7 (dk_at dksX3_rejectionDetail_0 5 rfl rfl)
theorem dX3_rejectionDetail_8 : decode cX3_rejectionDetail 8 = .ok (.iconst 1, 1) := dk_4 (dk_at dksX3_rejectionDetail_0 8 rfl rfl)
theorem dX3_rejectionDetail_9 : decode cX3_rejectionDetail 9 = .ok (.goto 4, 3) := dk_167 0 4 (dk_at dksX3_rejectionDetail_0 9 rfl rfl)
theorem dX3_rejectionDetail_12 : decode cX3_rejectionDetail 12 = .ok (.iconst 0, 1) := dk_3 (dk_at dksX3_rejectionDetail_0 12 rfl rfl)
theorem dX3_rejectionDetail_13 : decode cX3_rejectionDetail 13 = .ok (.invokevirtual 82, 3) := dk_182 0 82 (dk_at dksX3_rejectionDetail_0 13 rfl rfl)
theorem dX3_rejectionDetail_16 : decode cX3_rejectionDetail 16 = .ok (.ifCond .eq 7, 3) := dk_153 0 7 (dk_at dksX3_rejectionDetail_0 16 rfl rfl)
theorem dX3_rejectionDetail_19 : decode cX3_rejectionDetail 19 = .ok (.iconst 0, 1) := dk_3 (dk_at dksX3_rejectionDetail_0 19 rfl rfl)
theorem dX3_rejectionDetail_20 : decode cX3_rejectionDetail 20 = .ok (.goto 7, 3) := dk_167 0 7 (dk_at dksX3_rejectionDetail_0 20 rfl rfl)
theorem dX3_rejectionDetail_23 : decode cX3_rejectionDetail 23 = .ok (.aload_n 0, 1) := dk_42 (dk_at dksX3_rejectionDetail_0 23 rfl rfl)
theorem dX3_rejectionDetail_24 : decode cX3_rejectionDetail 24 = .ok (.getfield 46, 3) := dk_180 0 46 (dk_at dksX3_rejectionDetail_1 0 rfl rfl)
theorem dX3_rejectionDetail_27 : decode cX3_rejectionDetail 27 = .ok (.ireturn, 1) := dk_172 (dk_at dksX3_rejectionDetail_1 3 rfl rfl)
def dkwX3_causeReason_1 : List UInt8 := [180, 0, 49, 172]
abbrev dktX3_causeReason_1 : List UInt8 := dkwX3_causeReason_1 ++ []
def dkwX3_causeReason_0 : List UInt8 := [42, 42, 180, 0, 49, 154, 0, 7, 4, 167, 0, 4, 3, 182, 0, 82, 153, 0, 7, 3, 167, 0, 7, 42]
abbrev dktX3_causeReason_0 : List UInt8 := dkwX3_causeReason_0 ++ dktX3_causeReason_1
theorem dksX3_causeReason_0 : cX3_causeReason.data.toList.drop 0 = dktX3_causeReason_0 := by decide +kernel
theorem dksX3_causeReason_1 : cX3_causeReason.data.toList.drop 24 = dktX3_causeReason_1 := dk_seg dksX3_causeReason_0 24 rfl rfl
theorem dX3_causeReason_0 : decode cX3_causeReason 0 = .ok (.aload_n 0, 1) := dk_42 (dk_at dksX3_causeReason_0 0 rfl rfl)
theorem dX3_causeReason_1 : decode cX3_causeReason 1 = .ok (.aload_n 0, 1) := dk_42 (dk_at dksX3_causeReason_0 1 rfl rfl)
theorem dX3_causeReason_2 : decode cX3_causeReason 2 = .ok (.getfield 49, 3) := dk_180 0 49 (dk_at dksX3_causeReason_0 2 rfl rfl)
theorem dX3_causeReason_5 : decode cX3_causeReason 5 = .ok (.ifCond .ne 7, 3) := dk_154 0 7 (dk_at dksX3_causeReason_0 5 rfl rfl)
theorem dX3_causeReason_8 : decode cX3_causeReason 8 = .ok (.iconst 1, 1) := dk_4 (dk_at dksX3_causeReason_0 8 rfl rfl)
theorem dX3_causeReason_9 : decode cX3_causeReason 9 = .ok (.goto 4, 3) := dk_167 0 4 (dk_at dksX3_causeReason_0 9 rfl rfl)
theorem dX3_causeReason_12 : decode cX3_causeReason 12 = .ok (.iconst 0, 1) := dk_3 (dk_at dksX3_causeReason_0 12 rfl rfl)
theorem dX3_causeReason_13 : decode cX3_causeReason 13 = .ok (.invokevirtual 82, 3) := dk_182 0 82 (dk_at dksX3_causeReason_0 13 rfl rfl)
theorem dX3_causeReason_16 : decode cX3_causeReason 16 = .ok (.ifCond .eq 7, 3) := dk_153 0 7 (dk_at dksX3_causeReason_0 16 rfl rfl)
theorem dX3_causeReason_19 : decode cX3_causeReason 19 = .ok (.iconst 0, 1) := dk_3 (dk_at dksX3_causeReason_0 19 rfl rfl)
theorem dX3_causeReason_20 : decode cX3_causeReason 20 = .ok (.goto 7, 3) := dk_167 0 7 (dk_at dksX3_causeReason_0 20 rfl rfl)
theorem dX3_causeReason_23 : decode cX3_causeReason 23 = .ok (.aload_n 0, 1) := dk_42 (dk_at dksX3_causeReason_0 23 rfl rfl)
theorem dX3_causeReason_24 : decode cX3_causeReason 24 = .ok (.getfield 49, 3) := dk_180 0 49 (dk_at dksX3_causeReason_1 0 rfl rfl)
theorem dX3_causeReason_27 : decode cX3_causeReason 27 = .ok (.ireturn, 1) := dk_172 (dk_at dksX3_causeReason_1 3 rfl rfl)
def dkwX3_undo_2 : List UInt8 := [3, 184, 0, 58, 42, 180, 0, 55, 172]
abbrev dktX3_undo_2 : List UInt8 := dkwX3_undo_2 ++ []
def dkwX3_undo_1 : List UInt8 := [180, 0, 55, 4, 100, 181, 0, 55, 42, 180, 0, 13, 17, 0, 138, 42, 180, 0, 55, 104, 42, 180, 0, 7]
abbrev dktX3_undo_1 : List UInt8 := dkwX3_undo_1 ++ dktX3_undo_2
def dkwX3_undo_0 : List UInt8 := [42, 42, 180, 0, 55, 154, 0, 7, 4, 167, 0, 4, 3, 182, 0, 82, 153, 0, 5, 3, 172, 42, 89]
abbrev dktX3_undo_0 : List UInt8 := dkwX3_undo_0 ++ dktX3_undo_1
theorem dksX3_undo_0 : cX3_undo.data.toList.drop 0 = dktX3_undo_0 := by decide +kernel
theorem dksX3_undo_1 : cX3_undo.data.toList.drop 23 = dktX3_undo_1 := dk_seg dksX3_undo_0 23 rfl rfl
theorem dksX3_undo_2 : cX3_undo.data.toList.drop 47 = dktX3_undo_2 := dk_seg dksX3_undo_1 24 rfl rfl
theorem dX3_undo_0 : decode cX3_undo 0 = .ok (.aload_n 0, 1) := dk_42 (dk_at dksX3_undo_0 0 rfl rfl)
theorem dX3_undo_1 : decode cX3_undo 1 = .ok (.aload_n 0, 1) := dk_42 (dk_at dksX3_undo_0 1 rfl rfl)
theorem dX3_undo_2 : decode cX3_undo 2 = .ok (.getfield 55, 3) := dk_180 0 55 (dk_at dksX3_undo_0 2 rfl rfl)
theorem dX3_undo_5 : decode cX3_undo 5 = .ok (.ifCond .ne 7, 3) := dk_154 0 7 (dk_at dksX3_undo_0 5 rfl rfl)
theorem dX3_undo_8 : decode cX3_undo 8 = .ok (.iconst 1, 1) := dk_4 (dk_at dksX3_undo_0 8 rfl rfl)
theorem dX3_undo_9 : decode cX3_undo 9 = .ok (.goto 4, 3) := dk_167 0 4 (dk_at dksX3_undo_0 9 rfl rfl)
theorem dX3_undo_12 : decode cX3_undo 12 = .ok (.iconst 0, 1) := dk_3 (dk_at dksX3_undo_0 12 rfl rfl)
theorem dX3_undo_13 : decode cX3_undo 13 = .ok (.invokevirtual 82, 3) := dk_182 0 82 (dk_at dksX3_undo_0 13 rfl rfl)
theorem dX3_undo_16 : decode cX3_undo 16 = .ok (.ifCond .eq 5, 3) := dk_153 0 5 (dk_at dksX3_undo_0 16 rfl rfl)
theorem dX3_undo_19 : decode cX3_undo 19 = .ok (.iconst 0, 1) := dk_3 (dk_at dksX3_undo_0 19 rfl rfl)
theorem dX3_undo_20 : decode cX3_undo 20 = .ok (.ireturn, 1) := dk_172 (dk_at dksX3_undo_0 20 rfl rfl)
theorem dX3_undo_21 : decode cX3_undo 21 = .ok (.aload_n 0, 1) := dk_42 (dk_at dksX3_undo_0 21 rfl rfl)
theorem dX3_undo_22 : decode cX3_undo 22 = .ok (.dup, 1) := dk_89 (dk_at dksX3_undo_0 22 rfl rfl)
theorem dX3_undo_23 : decode cX3_undo 23 = .ok (.getfield 55, 3) := dk_180 0 55 (dk_at dksX3_undo_1 0 rfl rfl)
theorem dX3_undo_26 : decode cX3_undo 26 = .ok (.iconst 1, 1) := dk_4 (dk_at dksX3_undo_1 3 rfl rfl)
theorem dX3_undo_27 : decode cX3_undo 27 = .ok (.isub, 1) := dk_100 (dk_at dksX3_undo_1 4 rfl rfl)
theorem dX3_undo_28 : decode cX3_undo 28 = .ok (.putfield 55, 3) := dk_181 0 55 (dk_at dksX3_undo_1 5 rfl rfl)
theorem dX3_undo_31 : decode cX3_undo 31 = .ok (.aload_n 0, 1) := dk_42 (dk_at dksX3_undo_1 8 rfl rfl)
theorem dX3_undo_32 : decode cX3_undo 32 = .ok (.getfield 13, 3) := dk_180 0 13 (dk_at dksX3_undo_1 9 rfl rfl)
theorem dX3_undo_35 : decode cX3_undo 35 = .ok (.sipush 138, 3) := dk_17 0 138 (dk_at dksX3_undo_1 12 rfl rfl)
theorem dX3_undo_38 : decode cX3_undo 38 = .ok (.aload_n 0, 1) := dk_42 (dk_at dksX3_undo_1 15 rfl rfl)
theorem dX3_undo_39 : decode cX3_undo 39 = .ok (.getfield 55, 3) := dk_180 0 55 (dk_at dksX3_undo_1 16 rfl rfl)
theorem dX3_undo_42 : decode cX3_undo 42 = .ok (.imul, 1) := dk_104 (dk_at dksX3_undo_1 19 rfl rfl)
theorem dX3_undo_43 : decode cX3_undo 43 = .ok (.aload_n 0, 1) := dk_42 (dk_at dksX3_undo_1 20 rfl rfl)
theorem dX3_undo_44 : decode cX3_undo 44 = .ok (.getfield 7, 3) := dk_180 0 7 (dk_at dksX3_undo_1 21 rfl rfl)
theorem dX3_undo_47 : decode cX3_undo 47 = .ok (.iconst 0, 1) := dk_3 (dk_at dksX3_undo_2 0 rfl rfl)
theorem dX3_undo_48 : decode cX3_undo 48 = .ok (.invokestatic 58, 3) := dk_184 0 58 (dk_at dksX3_undo_2 1 rfl rfl)
theorem dX3_undo_51 : decode cX3_undo 51 = .ok (.aload_n 0, 1) := dk_42 (dk_at dksX3_undo_2 4 rfl rfl)
theorem dX3_undo_52 : decode cX3_undo 52 = .ok (.getfield 55, 3) := dk_180 0 55 (dk_at dksX3_undo_2 5 rfl rfl)
theorem dX3_undo_55 : decode cX3_undo 55 = .ok (.ireturn, 1) := dk_172 (dk_at dksX3_undo_2 8 rfl rfl)
def dkwX3_undoCount_0 : List UInt8 := [42, 3, 181, 0, 36, 42, 180, 0, 55, 172]
abbrev dktX3_undoCount_0 : List UInt8 := dkwX3_undoCount_0 ++ []
theorem dksX3_undoCount_0 : cX3_undoCount.data.toList.drop 0 = dktX3_undoCount_0 := by decide +kernel
theorem dX3_undoCount_0 : decode cX3_undoCount 0 = .ok (.aload_n 0, 1) := dk_42 (dk_at dksX3_undoCount_0 0 rfl rfl)
theorem dX3_undoCount_1 : decode cX3_undoCount 1 = .ok (.iconst 0, 1) := dk_3 (dk_at dksX3_undoCount_0 1 rfl rfl)
theorem dX3_undoCount_2 : decode cX3_undoCount 2 = .ok (.putfield 36, 3) := dk_181 0 36 (dk_at dksX3_undoCount_0 2 rfl rfl)
theorem dX3_undoCount_5 : decode cX3_undoCount 5 = .ok (.aload_n 0, 1) := dk_42 (dk_at dksX3_undoCount_0 5 rfl rfl)
theorem dX3_undoCount_6 : decode cX3_undoCount 6 = .ok (.getfield 55, 3) := dk_180 0 55 (dk_at dksX3_undoCount_0 6 rfl rfl)
theorem dX3_undoCount_9 : decode cX3_undoCount 9 = .ok (.ireturn, 1) := dk_172 (dk_at dksX3_undoCount_0 9 rfl rfl)
def dkwX3_saveSnapshot_1 : List UInt8 := [180, 0, 7, 3, 46, 172]
abbrev dktX3_saveSnapshot_1 : List UInt8 := dkwX3_saveSnapshot_1 ++ []
def dkwX3_saveSnapshot_0 : List UInt8 := [42, 3, 181, 0, 36, 42, 4, 181, 1, 6, 42, 180, 0, 7, 3, 42, 180, 0, 16, 3, 184, 0, 58, 42]
abbrev dktX3_saveSnapshot_0 : List UInt8 := dkwX3_saveSnapshot_0 ++ dktX3_saveSnapshot_1
theorem dksX3_saveSnapshot_0 : cX3_saveSnapshot.data.toList.drop 0 = dktX3_saveSnapshot_0 := by decide +kernel
theorem dksX3_saveSnapshot_1 : cX3_saveSnapshot.data.toList.drop 24 = dktX3_saveSnapshot_1 := dk_seg dksX3_saveSnapshot_0 24 rfl rfl
theorem dX3_saveSnapshot_0 : decode cX3_saveSnapshot 0 = .ok (.aload_n 0, 1) := dk_42 (dk_at dksX3_saveSnapshot_0 0 rfl rfl)
theorem dX3_saveSnapshot_1 : decode cX3_saveSnapshot 1 = .ok (.iconst 0, 1) := dk_3 (dk_at dksX3_saveSnapshot_0 1 rfl rfl)
theorem dX3_saveSnapshot_2 : decode cX3_saveSnapshot 2 = .ok (.putfield 36, 3) := dk_181 0 36 (dk_at dksX3_saveSnapshot_0 2 rfl rfl)
theorem dX3_saveSnapshot_5 : decode cX3_saveSnapshot 5 = .ok (.aload_n 0, 1) := dk_42 (dk_at dksX3_saveSnapshot_0 5 rfl rfl)
theorem dX3_saveSnapshot_6 : decode cX3_saveSnapshot 6 = .ok (.iconst 1, 1) := dk_4 (dk_at dksX3_saveSnapshot_0 6 rfl rfl)
theorem dX3_saveSnapshot_7 : decode cX3_saveSnapshot 7 = .ok (.putfield 262, 3) := dk_181 1 6 (dk_at dksX3_saveSnapshot_0 7 rfl rfl)
theorem dX3_saveSnapshot_10 : decode cX3_saveSnapshot 10 = .ok (.aload_n 0, 1) := dk_42 (dk_at dksX3_saveSnapshot_0 10 rfl rfl)
theorem dX3_saveSnapshot_11 : decode cX3_saveSnapshot 11 = .ok (.getfield 7, 3) := dk_180 0 7 (dk_at dksX3_saveSnapshot_0 11 rfl rfl)
theorem dX3_saveSnapshot_14 : decode cX3_saveSnapshot 14 = .ok (.iconst 0, 1) := dk_3 (dk_at dksX3_saveSnapshot_0 14 rfl rfl)
theorem dX3_saveSnapshot_15 : decode cX3_saveSnapshot 15 = .ok (.aload_n 0, 1) := dk_42 (dk_at dksX3_saveSnapshot_0 15 rfl rfl)
theorem dX3_saveSnapshot_16 : decode cX3_saveSnapshot 16 = .ok (.getfield 16, 3) := dk_180 0 16 (dk_at dksX3_saveSnapshot_0 16 rfl rfl)
theorem dX3_saveSnapshot_19 : decode cX3_saveSnapshot 19 = .ok (.iconst 0, 1) := dk_3 (dk_at dksX3_saveSnapshot_0 19 rfl rfl)
theorem dX3_saveSnapshot_20 : decode cX3_saveSnapshot 20 = .ok (.invokestatic 58, 3) := dk_184 0 58 (dk_at dksX3_saveSnapshot_0 20 rfl rfl)
theorem dX3_saveSnapshot_23 : decode cX3_saveSnapshot 23 = .ok (.aload_n 0, 1) := dk_42 (dk_at dksX3_saveSnapshot_0 23 rfl rfl)
theorem dX3_saveSnapshot_24 : decode cX3_saveSnapshot 24 = .ok (.getfield 7, 3) := dk_180 0 7 (dk_at dksX3_saveSnapshot_1 0 rfl rfl)
theorem dX3_saveSnapshot_27 : decode cX3_saveSnapshot 27 = .ok (.iconst 0, 1) := dk_3 (dk_at dksX3_saveSnapshot_1 3 rfl rfl)
theorem dX3_saveSnapshot_28 : decode cX3_saveSnapshot 28 = .ok (.iaload, 1) := dk_46 (dk_at dksX3_saveSnapshot_1 4 rfl rfl)
theorem dX3_saveSnapshot_29 : decode cX3_saveSnapshot 29 = .ok (.ireturn, 1) := dk_172 (dk_at dksX3_saveSnapshot_1 5 rfl rfl)
def dkwX3_restoreSnapshot_1 : List UInt8 := [180, 0, 16, 3, 42, 180, 0, 7, 3, 184, 0, 58, 42, 3, 181, 0, 55, 42, 180, 0, 7, 3, 46, 172]
abbrev dktX3_restoreSnapshot_1 : List UInt8 := dkwX3_restoreSnapshot_1 ++ []
def dkwX3_restoreSnapshot_0 : List UInt8 := [42, 42, 180, 1, 6, 153, 0, 7, 3, 167, 0, 4, 4, 182, 0, 82, 153, 0, 5, 3, 172, 42]
abbrev dktX3_restoreSnapshot_0 : List UInt8 := dkwX3_restoreSnapshot_0 ++ dktX3_restoreSnapshot_1
theorem dksX3_restoreSnapshot_0 : cX3_restoreSnapshot.data.toList.drop 0 = dktX3_restoreSnapshot_0 := by decide +kernel
theorem dksX3_restoreSnapshot_1 : cX3_restoreSnapshot.data.toList.drop 22 = dktX3_restoreSnapshot_1 := dk_seg dksX3_restoreSnapshot_0 22 rfl rfl
theorem dX3_restoreSnapshot_0 : decode cX3_restoreSnapshot 0 = .ok (.aload_n 0, 1) := dk_42 (dk_at dksX3_restoreSnapshot_0 0 rfl rfl)
theorem dX3_restoreSnapshot_1 : decode cX3_restoreSnapshot 1 = .ok (.aload_n 0, 1) := dk_42 (dk_at dksX3_restoreSnapshot_0 1 rfl rfl)
theorem dX3_restoreSnapshot_2 : decode cX3_restoreSnapshot 2 = .ok (.getfield 262, 3) := dk_180 1 6 (dk_at dksX3_restoreSnapshot_0 2 rfl rfl)
theorem dX3_restoreSnapshot_5 : decode cX3_restoreSnapshot 5 = .ok (.ifCond .eq 7, 3) := dk_153 0 7 (dk_at dksX3_restoreSnapshot_0 5 rfl rfl)
theorem dX3_restoreSnapshot_8 : decode cX3_restoreSnapshot 8 = .ok (.iconst 0, 1) := dk_3 (dk_at dksX3_restoreSnapshot_0 8 rfl rfl)
theorem dX3_restoreSnapshot_9 : decode cX3_restoreSnapshot 9 = .ok (.goto 4, 3) := dk_167 0 4 (dk_at dksX3_restoreSnapshot_0 9 rfl rfl)
theorem dX3_restoreSnapshot_12 : decode cX3_restoreSnapshot 12 = .ok (.iconst 1, 1) := dk_4 (dk_at dksX3_restoreSnapshot_0 12 rfl rfl)
theorem dX3_restoreSnapshot_13 : decode cX3_restoreSnapshot 13 = .ok (.invokevirtual 82, 3) := dk_182 0 82 (dk_at dksX3_restoreSnapshot_0 13 rfl rfl)
theorem dX3_restoreSnapshot_16 : decode cX3_restoreSnapshot 16 = .ok (.ifCond .eq 5, 3) := dk_153 0 5 (dk_at dksX3_restoreSnapshot_0 16 rfl rfl)
theorem dX3_restoreSnapshot_19 : decode cX3_restoreSnapshot 19 = .ok (.iconst 0, 1) := dk_3 (dk_at dksX3_restoreSnapshot_0 19 rfl rfl)
theorem dX3_restoreSnapshot_20 : decode cX3_restoreSnapshot 20 = .ok (.ireturn, 1) := dk_172 (dk_at dksX3_restoreSnapshot_0 20 rfl rfl)
theorem dX3_restoreSnapshot_21 : decode cX3_restoreSnapshot 21 = .ok (.aload_n 0, 1) := dk_42 (dk_at dksX3_restoreSnapshot_0 21 rfl rfl)
theorem dX3_restoreSnapshot_22 : decode cX3_restoreSnapshot 22 = .ok (.getfield 16, 3) := dk_180 0 16 (dk_at dksX3_restoreSnapshot_1 0 rfl rfl)
theorem dX3_restoreSnapshot_25 : decode cX3_restoreSnapshot 25 = .ok (.iconst 0, 1) := dk_3 (dk_at dksX3_restoreSnapshot_1 3 rfl rfl)
theorem dX3_restoreSnapshot_26 : decode cX3_restoreSnapshot 26 = .ok (.aload_n 0, 1) := dk_42 (dk_at dksX3_restoreSnapshot_1 4 rfl rfl)
theorem dX3_restoreSnapshot_27 : decode cX3_restoreSnapshot 27 = .ok (.getfield 7, 3) := dk_180 0 7 (dk_at dksX3_restoreSnapshot_1 5 rfl rfl)
theorem dX3_restoreSnapshot_30 : decode cX3_restoreSnapshot 30 = .ok (.iconst 0, 1) := dk_3 (dk_at dksX3_restoreSnapshot_1 8 rfl rfl)
theorem dX3_restoreSnapshot_31 : decode cX3_restoreSnapshot 31 = .ok (.invokestatic 58, 3) := dk_184 0 58 (dk_at dksX3_restoreSnapshot_1 9 rfl rfl)
theorem dX3_restoreSnapshot_34 : decode cX3_restoreSnapshot 34 = .ok (.aload_n 0, 1) := dk_42 (dk_at dksX3_restoreSnapshot_1 12 rfl rfl)
theorem dX3_restoreSnapshot_35 : decode cX3_restoreSnapshot 35 = .ok (.iconst 0, 1) := dk_3 (dk_at dksX3_restoreSnapshot_1 13 rfl rfl)
theorem dX3_restoreSnapshot_36 : decode cX3_restoreSnapshot 36 = .ok (.putfield 55, 3) := dk_181 0 55 (dk_at dksX3_restoreSnapshot_1 14 rfl rfl)
theorem dX3_restoreSnapshot_39 : decode cX3_restoreSnapshot 39 = .ok (.aload_n 0, 1) := dk_42 (dk_at dksX3_restoreSnapshot_1 17 rfl rfl)
theorem dX3_restoreSnapshot_40 : decode cX3_restoreSnapshot 40 = .ok (.getfield 7, 3) := dk_180 0 7 (dk_at dksX3_restoreSnapshot_1 18 rfl rfl)
theorem dX3_restoreSnapshot_43 : decode cX3_restoreSnapshot 43 = .ok (.iconst 0, 1) := dk_3 (dk_at dksX3_restoreSnapshot_1 21 rfl rfl)
theorem dX3_restoreSnapshot_44 : decode cX3_restoreSnapshot 44 = .ok (.iaload, 1) := dk_46 (dk_at dksX3_restoreSnapshot_1 22 rfl rfl)
theorem dX3_restoreSnapshot_45 : decode cX3_restoreSnapshot 45 = .ok (.ireturn, 1) := dk_172 (dk_at dksX3_restoreSnapshot_1 23 rfl rfl)
