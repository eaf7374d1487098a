set_option maxRecDepth 100000
theorem dJ0_init_0 : decode cJ0_init 0 = .ok (.aload_n 0, 1) := by decide +kernel
theorem dJ0_init_1 : decode cJ0_init 1 = .ok (.invokespecial 1, 3) := by decide +kernel
theorem dJ0_init_4 : decode cJ0_init 4 = .ok (.return_, 1) := by decide +kernel
def dkwJ1_init_0 : List UInt8 := [42, 183, 0, 1, 42, 3, 181, 0, 7, 177]
abbrev dktJ1_init_0 : List UInt8 := dkwJ1_init_0 ++ []
theorem dksJ1_init_0 : cJ1_init.data.toList.drop 0 = dktJ1_init_0 := by decide +kernel
theorem dJ1_init_0 : decode cJ1_init 0 = .ok (.aload_n 0, 1) := dk_42 (dk_at dksJ1_init_0 0 rfl rfl)
theorem dJ1_init_1 : decode cJ1_init 1 = .ok (.invokespecial 1, 3) := dk_183 0 1 (dk_at dksJ1_init_0 1 rfl rfl)
theorem dJ1_init_4 : decode cJ1_init 4 = .ok (.aload_n 0, 1) := dk_42 (dk_at dksJ1_init_0 4 rfl rfl)
theorem dJ1_init_5 : decode cJ1_init 5 = .ok (.iconst 0, 1) := dk_3 (dk_at dksJ1_init_0 5 rfl rfl)
theorem dJ1_init_6 : decode cJ1_init 6 = .ok (.putfield 7, 3) := dk_181 0 7 (dk_at dksJ1_init_0 6 rfl rfl)
theorem dJ1_init_9 : decode cJ1_init 9 = .ok (.return_, 1) := dk_177 (dk_at dksJ1_init_0 9 rfl rfl)
def dkwJ10_length_0 : List UInt8 := [42, 180, 0, 9, 190, 42, 182, 1, 79, 122, 172]
abbrev dktJ10_length_0 : List UInt8 := dkwJ10_length_0 ++ []
theorem dksJ10_length_0 : cJ10_length.data.toList.drop 0 = dktJ10_length_0 := by decide +kernel
theorem dJ10_length_0 : decode cJ10_length 0 = .ok (.aload_n 0, 1) := dk_42 (dk_at dksJ10_length_0 0 rfl rfl)
theorem dJ10_length_1 : decode cJ10_length 1 = .ok (.getfield 9, 3) := dk_180 0 9 (dk_at dksJ10_length_0 1 rfl rfl)
theorem dJ10_length_4 : decode cJ10_length 4 = .ok (.arraylength, 1) := dk_190 (dk_at dksJ10_length_0 4 rfl rfl)
theorem dJ10_length_5 : decode cJ10_length 5 = .ok (.aload_n 0, 1) := dk_42 (dk_at dksJ10_length_0 5 rfl rfl)
theorem dJ10_length_6 : decode cJ10_length 6 = .ok (.invokevirtual 335, 3) := dk_182 1 79 (dk_at dksJ10_length_0 6 rfl rfl)
theorem dJ10_length_9 : decode cJ10_length 9 = .ok (.ishr, 1) := dk_122 (dk_at dksJ10_length_0 9 rfl rfl)
theorem dJ10_length_10 : decode cJ10_length 10 = .ok (.ireturn, 1) := dk_172 (dk_at dksJ10_length_0 10 rfl rfl)
def dkwJ10_coder_0 : List UInt8 := [178, 0, 38, 153, 0, 10, 42, 180, 0, 15, 167, 0, 4, 4, 172]
abbrev dktJ10_coder_0 : List UInt8 := dkwJ10_coder_0 ++ []
theorem dksJ10_coder_0 : cJ10_coder.data.toList.drop 0 = dktJ10_coder_0 := by decide +kernel
theorem dJ10_coder_0 : decode cJ10_coder 0 = .ok (.getstatic 38, 3) := dk_178 0 38 (dk_at dksJ10_coder_0 0 rfl rfl)
theorem dJ10_coder_3 : decode cJ10_coder 3 = .ok (.ifCond .eq 10, 3) := dk_153 0 10 (dk_at dksJ10_coder_0 3 rfl rfl)
theorem dJ10_coder_6 : decode cJ10_coder 6 = .ok (.aload_n 0, 1) := dk_42 (dk_at dksJ10_coder_0 6 rfl rfl)
theorem dJ10_coder_7 : decode cJ10_coder 7 = .ok (.getfield 15, 3) := dk_180 0 15 (dk_at dksJ10_coder_0 7 rfl rfl)
theorem dJ10_coder_10 : decode cJ10_coder 10 = .ok (.goto 4, 3) := dk_167 0 4 (dk_at dksJ10_coder_0 10 rfl rfl)
theorem dJ10_coder_13 : decode cJ10_coder 13 = .ok (.iconst 1, 1) := dk_4 (dk_at dksJ10_coder_0 13 rfl rfl)
theorem dJ10_coder_14 : decode cJ10_coder 14 = .ok (.ireturn, 1) := dk_172 (dk_at dksJ10_coder_0 14 rfl rfl)
def dkwJ10_charAt_1 : List UInt8 := [172]
abbrev dktJ10_charAt_1 : List UInt8 := dkwJ10_charAt_1 ++ []
def dkwJ10_charAt_0 : List UInt8 := [42, 182, 1, 236, 153, 0, 12, 42, 180, 0, 9, 27, 184, 1, 239, 172, 42, 180, 0, 9, 27, 184, 1, 242]
abbrev dktJ10_charAt_0 : List UInt8 := dkwJ10_charAt_0 ++ dktJ10_charAt_1
theorem dksJ10_charAt_0 : cJ10_charAt.data.toList.drop 0 = dktJ10_charAt_0 := by decide +kernel
theorem dksJ10_charAt_1 : cJ10_charAt.data.toList.drop 24 = dktJ10_charAt_1 := dk_seg dksJ10_charAt_0 24 rfl rfl
theorem dJ10_charAt_0 : decode cJ10_charAt 0 = .ok (.aload_n 0, 1) := dk_42 (dk_at dksJ10_charAt_0 0 rfl rfl)
theorem dJ10_charAt_1 : decode cJ10_charAt 1 = .ok (.invokevirtual 492, 3) := dk_182 1 236 (dk_at dksJ10_charAt_0 1 rfl rfl)
theorem dJ10_charAt_4 : decode cJ10_charAt 4 = .ok (.ifCond .eq 12, 3) := dk_153 0 12 (dk_at dksJ10_charAt_0 4 rfl rfl)
theorem dJ10_charAt_7 : decode cJ10_charAt 7 = .ok (.aload_n 0, 1) := dk_42 (dk_at dksJ10_charAt_0 7 rfl rfl)
theorem dJ10_charAt_8 : decode cJ10_charAt 8 = .ok (.getfield 9, 3) := dk_180 0 9 (dk_at dksJ10_charAt_0 8 rfl rfl)
theorem dJ10_charAt_11 : decode cJ10_charAt 11 = .ok (.iload_n 1, 1) := dk_27 (dk_at dksJ10_charAt_0 11 rfl rfl)
theorem dJ10_charAt_12 : decode cJ10_charAt 12 = .ok (.invokestatic 495, 3) := dk_184 1 239 (dk_at dksJ10_charAt_0 12 rfl rfl)
theorem dJ10_charAt_15 : decode cJ10_charAt 15 = .ok (.ireturn, 1) := dk_172 (dk_at dksJ10_charAt_0 15 rfl rfl)
theorem dJ10_charAt_16 : decode cJ10_charAt 16 = .ok (.aload_n 0, 1) := dk_42 (dk_at dksJ10_charAt_0 16 rfl rfl)
theorem dJ10_charAt_17 : decode cJ10_charAt 17 = .ok (.getfield 9, 3) := dk_180 0 9 (dk_at dksJ10_charAt_0 17 rfl rfl)
theorem dJ10_charAt_20 : decode cJ10_charAt 20 = .ok (.iload_n 1, 1) := dk_27 (dk_at dksJ10_charAt_0 20 rfl rfl)
theorem dJ10_charAt_21 : decode cJ10_charAt 21 = .ok (.invokestatic 498, 3) := dk_184 1 242 (dk_at dksJ10_charAt_0 21 rfl rfl)
theorem dJ10_charAt_24 : decode cJ10_charAt 24 = .ok (.ireturn, 1) := dk_172 (dk_at dksJ10_charAt_1 0 rfl rfl)
def dkwJ10_isLatin1_0 : List UInt8 := [178, 0, 38, 153, 0, 14, 42, 180, 0, 15, 154, 0, 7, 4, 167, 0, 4, 3, 172]
abbrev dktJ10_isLatin1_0 : List UInt8 := dkwJ10_isLatin1_0 ++ []
theorem dksJ10_isLatin1_0 : cJ10_isLatin1.data.toList.drop 0 = dktJ10_isLatin1_0 := by decide +kernel
theorem dJ10_isLatin1_0 : decode cJ10_isLatin1 0 = .ok (.getstatic 38, 3) := dk_178 0 38 (dk_at dksJ10_isLatin1_0 0 rfl rfl)
theorem dJ10_isLatin1_3 : decode cJ10_isLatin1 3 = .ok (.ifCond .eq 14, 3) := dk_153 0 14 (dk_at dksJ10_isLatin1_0 3 rfl rfl)
theorem dJ10_isLatin1_6 : decode cJ10_isLatin1 6 = .ok (.aload_n 0, 1) := dk_42 (dk_at dksJ10_isLatin1_0 6 rfl rfl)
theorem dJ10_isLatin1_7 : decode cJ10_isLatin1 7 = .ok (.getfield 15, 3) := dk_180 0 15 (dk_at dksJ10_isLatin1_0 7 rfl rfl)
theorem dJ10_isLatin1_10 : decode cJ10_isLatin1 10 = .ok (.ifCond .ne 7, 3) := dk_154 0 7 (dk_at dksJ10_isLatin1_0 10 rfl rfl)
theorem dJ10_isLatin1_13 : decode cJ10_isLatin1 13 = .ok (.iconst 1, 1) := dk_4 (dk_at dksJ10_isLatin1_0 13 rfl rfl)
theorem dJ10_isLatin1_14 : decode cJ10_isLatin1 14 = .ok (.goto 4, 3) := dk_167 0 4 (dk_at dksJ10_isLatin1_0 14 rfl rfl)
theorem dJ10_isLatin1_17 : decode cJ10_isLatin1 17 = .ok (.iconst 0, 1) := dk_3 (dk_at dksJ10_isLatin1_0 17 rfl rfl)
theorem dJ10_isLatin1_18 : decode cJ10_isLatin1 18 = .ok (.ireturn, 1) := dk_172 (dk_at dksJ10_isLatin1_0 18 rfl rfl)
def dkwJ10_checkIndex_0 : List UInt8 := [26, 27, 178, 4, 29, 184, 4, 35, 87, 177]
abbrev dktJ10_checkIndex_0 : List UInt8 := dkwJ10_checkIndex_0 ++ []
theorem dksJ10_checkIndex_0 : cJ10_checkIndex.data.toList.drop 0 = dktJ10_checkIndex_0 := by decide +kernel
theorem dJ10_checkIndex_0 : decode cJ10_checkIndex 0 = .ok (.iload_n 0, 1) := dk_26 (dk_at dksJ10_checkIndex_0 0 rfl rfl)
theorem dJ10_checkIndex_1 : decode cJ10_checkIndex 1 = .ok (.iload_n 1, 1) := dk_27 (dk_at dksJ10_checkIndex_0 1 rfl rfl)
theorem dJ10_checkIndex_2 : decode cJ10_checkIndex 2 = .ok (.getstatic 1053, 3) := dk_178 4 29 (dk_at dksJ10_checkIndex_0 2 rfl rfl)
theorem dJ10_checkIndex_5 : decode cJ10_checkIndex 5 = .ok (.invokestatic 1059, 3) := dk_184 4 35 (dk_at dksJ10_checkIndex_0 5 rfl rfl)
theorem dJ10_checkIndex_8 : decode cJ10_checkIndex 8 = .ok (.pop, 1) := dk_87 (dk_at dksJ10_checkIndex_0 8 rfl rfl)
theorem dJ10_checkIndex_9 : decode cJ10_checkIndex 9 = .ok (.return_, 1) := dk_177 (dk_at dksJ10_checkIndex_0 9 rfl rfl)
def dkwJ10_indexOf_0 : List UInt8 := [42, 27, 3, 182, 2, 121, 172]
abbrev dktJ10_indexOf_0 : List UInt8 := dkwJ10_indexOf_0 ++ []
theorem dksJ10_indexOf_0 : cJ10_indexOf.data.toList.drop 0 = dktJ10_indexOf_0 := by decide +kernel
theorem dJ10_indexOf_0 : decode cJ10_indexOf 0 = .ok (.aload_n 0, 1) := dk_42 (dk_at dksJ10_indexOf_0 0 rfl rfl)
theorem dJ10_indexOf_1 : decode cJ10_indexOf 1 = .ok (.iload_n 1, 1) := dk_27 (dk_at dksJ10_indexOf_0 1 rfl rfl)
theorem dJ10_indexOf_2 : decode cJ10_indexOf 2 = .ok (.iconst 0, 1) := dk_3 (dk_at dksJ10_indexOf_0 2 rfl rfl)
theorem dJ10_indexOf_3 : decode cJ10_indexOf 3 = .ok (.invokevirtual 633, 3) := dk_182 2 121 (dk_at dksJ10_indexOf_0 3 rfl rfl)
theorem dJ10_indexOf_6 : decode cJ10_indexOf 6 = .ok (.ireturn, 1) := dk_172 (dk_at dksJ10_indexOf_0 6 rfl rfl)
def dkwJ10_indexOf_2_1 : List UInt8 := [180, 0, 9, 27, 28, 42, 182, 1, 249, 184, 2, 128, 172]
abbrev dktJ10_indexOf_2_1 : List UInt8 := dkwJ10_indexOf_2_1 ++ []
def dkwJ10_indexOf_2_0 : List UInt8 := [42, 182, 1, 236, 153, 0, 19, 42, 180, 0, 9, 27, 28, 42, 182, 1, 249, 184, 2, 125, 167, 0, 16, 42]
abbrev dktJ10_indexOf_2_0 : List UInt8 := dkwJ10_indexOf_2_0 ++ dktJ10_indexOf_2_1
theorem dksJ10_indexOf_2_0 : cJ10_indexOf_2.data.toList.drop 0 = dktJ10_indexOf_2_0 := by decide +kernel
theorem dksJ10_indexOf_2_1 : cJ10_indexOf_2.data.toList.drop 24 = dktJ10_indexOf_2_1 := dk_seg dksJ10_indexOf_2_0 24 rfl rfl
theorem dJ10_indexOf_2_0 : decode cJ10_indexOf_2 0 = .ok (.aload_n 0, 1) := dk_42 (dk_at dksJ10_indexOf_2_0 0 rfl rfl)
theorem dJ10_indexOf_2_1 : decode cJ10_indexOf_2 1 = .ok (.invokevirtual 492, 3) := dk_182 1 236 (dk_at dksJ10_indexOf_2_0 1 rfl rfl)
theorem dJ10_indexOf_2_4 : decode cJ10_indexOf_2 4 = .ok (.ifCond .eq 19, 3) := dk_153 0 19 (dk_at dksJ10_indexOf_2_0 4 rfl rfl)
theorem dJ10_indexOf_2_7 : decode cJ10_indexOf_2 7 = .ok (.aload_n 0, 1) := dk_42 (dk_at dksJ10_indexOf_2_0 7 rfl rfl)
theorem dJ10_indexOf_2_8 : decode cJ10_indexOf_2 8 = .ok (.getfield 9, 3) := dk_180 0 9 (dk_at dksJ10_indexOf_2_0 8 rfl rfl)
theorem dJ10_indexOf_2_11 : decode cJ10_indexOf_2 11 = .ok (.iload_n 1, 1) := dk_27 (dk_at dksJ10_indexOf_2_0 11 rfl rfl)
theorem dJ10_indexOf_2_12 : decode cJ10_indexOf_2 12 = .ok (.iload_n 2, 1) := dk_28 (dk_at dksJ10_indexOf_2_0 12 rfl rfl)
theorem dJ10_indexOf_2_13 : decode cJ10_indexOf_2 13 = .ok (.aload_n 0, 1) := dk_42 (dk_at dksJ10_indexOf_2_0 13 rfl rfl)
theorem dJ10_indexOf_2_14 : decode cJ10_indexOf_2 14 = .ok (.invokevirtual 505, 3) := dk_182 1 249 (dk_at dksJ10_indexOf_2_0 14 rfl rfl)
theorem dJ10_indexOf_2_17 : decode cJ10_indexOf_2 17 = .ok (.invokestatic 637, 3) := dk_184 2 125 (dk_at dksJ10_indexOf_2_0 17 rfl rfl)
theorem dJ10_indexOf_2_20 : decode cJ10_indexOf_2 20 = .ok (.goto 16, 3) := dk_167 0 16 (dk_at dksJ10_indexOf_2_0 20 rfl rfl)
theorem dJ10_indexOf_2_23 : decode cJ10_indexOf_2 23 = .ok (.aload_n 0, 1) := dk_42 (dk_at dksJ10_indexOf_2_0 23 rfl rfl)
theorem dJ10_indexOf_2_24 : decode cJ10_indexOf_2 24 = .ok (.getfield 9, 3) := dk_180 0 9 (dk_at dksJ10_indexOf_2_1 0 rfl rfl)
theorem dJ10_indexOf_2_27 : decode cJ10_indexOf_2 27 = .ok (.iload_n 1, 1) := dk_27 (dk_at dksJ10_indexOf_2_1 3 rfl rfl)
theorem dJ10_indexOf_2_28 : decode cJ10_indexOf_2 28 = .ok (.iload_n 2, 1) := dk_28 (dk_at dksJ10_indexOf_2_1 4 rfl rfl)
theorem dJ10_indexOf_2_29 : decode cJ10_indexOf_2 29 = .ok (.aload_n 0, 1) := dk_42 (dk_at dksJ10_indexOf_2_1 5 rfl rfl)
theorem dJ10_indexOf_2_30 : decode cJ10_indexOf_2 30 = .ok (.invokevirtual 505, 3) := dk_182 1 249 (dk_at dksJ10_indexOf_2_1 6 rfl rfl)
theorem dJ10_indexOf_2_33 : decode cJ10_indexOf_2 33 = .ok (.invokestatic 640, 3) := dk_184 2 128 (dk_at dksJ10_indexOf_2_1 9 rfl rfl)
theorem dJ10_indexOf_2_36 : decode cJ10_indexOf_2 36 = .ok (.ireturn, 1) := dk_172 (dk_at dksJ10_indexOf_2_1 12 rfl rfl)
def dkwJ10_checkBoundsBeginEnd_0 : List UInt8 := [26, 27, 28, 178, 4, 29, 184, 4, 38, 87, 177]
abbrev dktJ10_checkBoundsBeginEnd_0 : List UInt8 := dkwJ10_checkBoundsBeginEnd_0 ++ []
theorem dksJ10_checkBoundsBeginEnd_0 : cJ10_checkBoundsBeginEnd.data.toList.drop 0 = dktJ10_checkBoundsBeginEnd_0 := by decide +kernel
theorem dJ10_checkBoundsBeginEnd_0 : decode cJ10_checkBoundsBeginEnd 0 = .ok (.iload_n 0, 1) := dk_26 (dk_at dksJ10_checkBoundsBeginEnd_0 0 rfl rfl)
theorem dJ10_checkBoundsBeginEnd_1 : decode cJ10_checkBoundsBeginEnd 1 = .ok (.iload_n 1, 1) := dk_27 (dk_at dksJ10_checkBoundsBeginEnd_0 1 rfl rfl)
theorem dJ10_checkBoundsBeginEnd_2 : decode cJ10_checkBoundsBeginEnd 2 = .ok (.iload_n 2, 1) := dk_28 (dk_at dksJ10_checkBoundsBeginEnd_0 2 rfl rfl)
theorem dJ10_checkBoundsBeginEnd_3 : decode cJ10_checkBoundsBeginEnd 3 = .ok (.getstatic 1053, 3) := dk_178 4 29 (dk_at dksJ10_checkBoundsBeginEnd_0 3 rfl rfl)
theorem dJ10_checkBoundsBeginEnd_6 : decode cJ10_checkBoundsBeginEnd 6 = .ok (.invokestatic 1062, 3) := dk_184 4 38 (dk_at dksJ10_checkBoundsBeginEnd_0 6 rfl rfl)
theorem dJ10_checkBoundsBeginEnd_9 : decode cJ10_checkBoundsBeginEnd 9 = .ok (.pop, 1) := dk_87 (dk_at dksJ10_checkBoundsBeginEnd_0 9 rfl rfl)
theorem dJ10_checkBoundsBeginEnd_10 : decode cJ10_checkBoundsBeginEnd 10 = .ok (.return_, 1) := dk_177 (dk_at dksJ10_checkBoundsBeginEnd_0 10 rfl rfl)
def dkwJ10_checkBoundsOffCount_0 : List UInt8 := [26, 27, 28, 178, 4, 29, 184, 4, 41, 172]
abbrev dktJ10_checkBoundsOffCount_0 : List UInt8 := dkwJ10_checkBoundsOffCount_0 ++ []
theorem dksJ10_checkBoundsOffCount_0 : cJ10_checkBoundsOffCount.data.toList.drop 0 = dktJ10_checkBoundsOffCount_0 := by decide +kernel
theorem dJ10_checkBoundsOffCount_0 : decode cJ10_checkBoundsOffCount 0 = .ok (.iload_n 0, 1) := dk_26 (dk_at dksJ10_checkBoundsOffCount_0 0 rfl rfl)
theorem dJ10_checkBoundsOffCount_1 : decode cJ10_checkBoundsOffCount 1 = .ok (.iload_n 1, 1) := dk_27 (dk_at dksJ10_checkBoundsOffCount_0 1 rfl rfl)
theorem dJ10_checkBoundsOffCount_2 : decode cJ10_checkBoundsOffCount 2 = .ok (.iload_n 2, 1) := dk_28 (dk_at dksJ10_checkBoundsOffCount_0 2 rfl rfl)
theorem dJ10_checkBoundsOffCount_3 : decode cJ10_checkBoundsOffCount 3 = .ok (.getstatic 1053, 3) := dk_178 4 29 (dk_at dksJ10_checkBoundsOffCount_0 3 rfl rfl)
theorem dJ10_checkBoundsOffCount_6 : decode cJ10_checkBoundsOffCount 6 = .ok (.invokestatic 1065, 3) := dk_184 4 41 (dk_at dksJ10_checkBoundsOffCount_0 6 rfl rfl)
theorem dJ10_checkBoundsOffCount_9 : decode cJ10_checkBoundsOffCount 9 = .ok (.ireturn, 1) := dk_172 (dk_at dksJ10_checkBoundsOffCount_0 9 rfl rfl)
def dkwJ10_getBytes_1 : List UInt8 := [184, 0, 212, 167, 0, 18, 42, 180, 0, 9, 3, 43, 28, 42, 180, 0, 9, 190, 184, 0, 106, 177]
abbrev dktJ10_getBytes_1 : List UInt8 := dkwJ10_getBytes_1 ++ []
def dkwJ10_getBytes_0 : List UInt8 := [42, 182, 1, 79, 29, 160, 0, 23, 42, 180, 0, 9, 3, 43, 28, 29, 120, 42, 180, 0, 9, 190]
abbrev dktJ10_getBytes_0 : List UInt8 := dkwJ10_getBytes_0 ++ dktJ10_getBytes_1
theorem dksJ10_getBytes_0 : cJ10_getBytes.data.toList.drop 0 = dktJ10_getBytes_0 := by decide +kernel
theorem dksJ10_getBytes_1 : cJ10_getBytes.data.toList.drop 22 = dktJ10_getBytes_1 := dk_seg dksJ10_getBytes_0 22 rfl rfl
theorem dJ10_getBytes_0 : decode cJ10_getBytes 0 = .ok (.aload_n 0, 1) := dk_42 (dk_at dksJ10_getBytes_0 0 rfl rfl)
theorem dJ10_getBytes_1 : decode cJ10_getBytes 1 = .ok (.invokevirtual 335, 3) := dk_182 1 79 (dk_at dksJ10_getBytes_0 1 rfl rfl)
theorem dJ10_getBytes_4 : decode cJ10_getBytes 4 = .ok (.iload_n 3, 1) := dk_29 (dk_at dksJ10_getBytes_0 4 rfl rfl)
theorem dJ10_getBytes_5 : decode cJ10_getBytes 5 = .ok (.if_icmp .ne 23, 3) := dk_160 0 23 (dk_at dksJ10_getBytes_0 5 rfl rfl)
theorem dJ10_getBytes_8 : decode cJ10_getBytes 8 = .ok (.aload_n 0, 1) := dk_42 (dk_at dksJ10_getBytes_0 8 rfl rfl)
theorem dJ10_getBytes_9 : decode cJ10_getBytes 9 = .ok (.getfield 9, 3) := dk_180 0 9 (dk_at dksJ10_getBytes_0 9 rfl rfl)
theorem dJ10_getBytes_12 : decode cJ10_getBytes 12 = .ok (.iconst 0, 1) := dk_3 (dk_at dksJ10_getBytes_0 12 rfl rfl)
theorem dJ10_getBytes_13 : decode cJ10_getBytes 13 = .ok (.aload_n 1, 1) := dk_43 (dk_at dksJ10_getBytes_0 13 rfl rfl)
theorem dJ10_getBytes_14 : decode cJ10_getBytes 14 = .ok (.iload_n 2, 1) := dk_28 (dk_at dksJ10_getBytes_0 14 rfl rfl)
theorem dJ10_getBytes_15 : decode cJ10_getBytes 15 = .ok (.iload_n 3, 1) := dk_29 (dk_at dksJ10_getBytes_0 15 rfl rfl)
theorem dJ10_getBytes_16 : decode cJ10_getBytes 16 = .ok (.ishl, 1) := dk_120 (dk_at dksJ10_getBytes_0 16 rfl rfl)
theorem dJ10_getBytes_17 : decode cJ10_getBytes 17 = .ok (.aload_n 0, 1) := dk_42 (dk_at dksJ10_getBytes_0 17 rfl rfl)
theorem dJ10_getBytes_18 : decode cJ10_getBytes 18 = .ok (.getfield 9, 3) := dk_180 0 9 (dk_at dksJ10_getBytes_0 18 rfl rfl)
theorem dJ10_getBytes_21 : decode cJ10_getBytes 21 = .ok (.arraylength, 1) := dk_190 (dk_at dksJ10_getBytes_0 21 rfl rfl)
theorem dJ10_getBytes_22 : decode cJ10_getBytes 22 = .ok (.invokestatic 212, 3) := dk_184 0 212 (dk_at dksJ10_getBytes_1 0 rfl rfl)
theorem dJ10_getBytes_25 : decode cJ10_getBytes 25 = .ok (.goto 18, 3) := dk_167 0 18 (dk_at dksJ10_getBytes_1 3 rfl rfl)
theorem dJ10_getBytes_28 : decode cJ10_getBytes 28 = .ok (.aload_n 0, 1) := dk_42 (dk_at dksJ10_getBytes_1 6 rfl rfl)
theorem dJ10_getBytes_29 : decode cJ10_getBytes 29 = .ok (.getfield 9, 3) := dk_180 0 9 (dk_at dksJ10_getBytes_1 7 rfl rfl)
theorem dJ10_getBytes_32 : decode cJ10_getBytes 32 = .ok (.iconst 0, 1) := dk_3 (dk_at dksJ10_getBytes_1 10 rfl rfl)
theorem dJ10_getBytes_33 : decode cJ10_getBytes 33 = .ok (.aload_n 1, 1) := dk_43 (dk_at dksJ10_getBytes_1 11 rfl rfl)
theorem dJ10_getBytes_34 : decode cJ10_getBytes 34 = .ok (.iload_n 2, 1) := dk_28 (dk_at dksJ10_getBytes_1 12 rfl rfl)
theorem dJ10_getBytes_35 : decode cJ10_getBytes 35 = .ok (.aload_n 0, 1) := dk_42 (dk_at dksJ10_getBytes_1 13 rfl rfl)
theorem dJ10_getBytes_36 : decode cJ10_getBytes 36 = .ok (.getfield 9, 3) := dk_180 0 9 (dk_at dksJ10_getBytes_1 14 rfl rfl)
theorem dJ10_getBytes_39 : decode cJ10_getBytes 39 = .ok (.arraylength, 1) := dk_190 (dk_at dksJ10_getBytes_1 17 rfl rfl)
theorem dJ10_getBytes_40 : decode cJ10_getBytes 40 = .ok (.invokestatic 106, 3) := dk_184 0 106 (dk_at dksJ10_getBytes_1 18 rfl rfl)
theorem dJ10_getBytes_43 : decode cJ10_getBytes 43 = .ok (.return_, 1) := dk_177 (dk_at dksJ10_getBytes_1 21 rfl rfl)
def dkwJ10_init_0 : List UInt8 := [42, 43, 1, 183, 1, 233, 177]
abbrev dktJ10_init_0 : List UInt8 := dkwJ10_init_0 ++ []
theorem dksJ10_init_0 : cJ10_init.data.toList.drop 0 = dktJ10_init_0 := by decide +kernel
theorem dJ10_init_0 : decode cJ10_init 0 = .ok (.aload_n 0, 1) := dk_42 (dk_at dksJ10_init_0 0 rfl rfl)
theorem dJ10_init_1 : decode cJ10_init 1 = .ok (.aload_n 1, 1) := dk_43 (dk_at dksJ10_init_0 1 rfl rfl)
theorem dJ10_init_2 : decode cJ10_init 2 = .ok (.aconst_null, 1) := dk_1 (dk_at dksJ10_init_0 2 rfl rfl)
theorem dJ10_init_3 : decode cJ10_init 3 = .ok (.invokespecial 489, 3) := dk_183 1 233 (dk_at dksJ10_init_0 3 rfl rfl)
theorem dJ10_init_6 : decode cJ10_init 6 = .ok (.return_, 1) := dk_177 (dk_at dksJ10_init_0 6 rfl rfl)
def dkwJ10_init_2_4 : List UInt8 := [181, 0, 9, 177]
abbrev dktJ10_init_2_4 : List UInt8 := dkwJ10_init_2_4 ++ []
def dkwJ10_init_2_3 : List UInt8 := [184, 0, 47, 181, 0, 15, 177, 42, 4, 181, 0, 15, 42, 45, 3, 21, 4, 4, 120, 184, 0, 54]
abbrev dktJ10_init_2_3 : List UInt8 := dkwJ10_init_2_3 ++ dktJ10_init_2_4
def dkwJ10_init_2_2 : List UInt8 := [180, 4, 24, 153, 0, 28, 42, 45, 3, 21, 4, 184, 4, 27, 181, 0, 9, 42, 42, 180, 0, 9, 21, 4]
abbrev dktJ10_init_2_2 : List UInt8 := dkwJ10_init_2_2 ++ dktJ10_init_2_3
def dkwJ10_init_2_1 : List UInt8 := [181, 0, 15, 42, 45, 3, 21, 4, 184, 0, 54, 181, 0, 9, 167, 0, 59, 178, 0, 38, 153, 0, 35, 43]
abbrev dktJ10_init_2_1 : List UInt8 := dkwJ10_init_2_1 ++ dktJ10_init_2_2
def dkwJ10_init_2_0 : List UInt8 := [42, 183, 0, 1, 43, 182, 2, 40, 78, 43, 182, 2, 37, 54, 4, 43, 182, 4, 23, 153, 0, 22, 42, 3]
abbrev dktJ10_init_2_0 : List UInt8 := dkwJ10_init_2_0 ++ dktJ10_init_2_1
theorem dksJ10_init_2_0 : cJ10_init_2.data.toList.drop 0 = dktJ10_init_2_0 := by decide +kernel
theorem dksJ10_init_2_1 : cJ10_init_2.data.toList.drop 24 = dktJ10_init_2_1 := dk_seg dksJ10_init_2_0 24 rfl rfl
theorem dksJ10_init_2_2 : cJ10_init_2.data.toList.drop 48 = dktJ10_init_2_2 := dk_seg dksJ10_init_2_1 24 rfl rfl
theorem dksJ10_init_2_3 : cJ10_init_2.data.toList.drop 72 = dktJ10_init_2_3 := dk_seg dksJ10_init_2_2 24 rfl rfl
theorem dksJ10_init_2_4 : cJ10_init_2.data.toList.drop 94 = dktJ10_init_2_4 := dk_seg dksJ10_init_2_3 22 rfl rfl
theorem dJ10_init_2_0 : decode cJ10_init_2 0 = .ok (.aload_n 0, 1) := dk_42 (dk_at dksJ10_init_2_0 0 rfl rfl)
theorem dJ10_init_2_1 : decode cJ10_init_2 1 = .ok (.invokespecial 1, 3) := dk_183 0 1 (dk_at dksJ10_init_2_0 1 rfl rfl)
theorem dJ10_init_2_4 : decode cJ10_init_2 4 = .ok (.aload_n 1, 1) := dk_43 (dk_at dksJ10_init_2_0 4 rfl rfl)
theorem dJ10_init_2_5 : decode cJ10_init_2 5 = .ok (.invokevirtual 552, 3) := dk_182 2 40 (dk_at dksJ10_init_2_0 5 rfl rfl)
theorem dJ10_init_2_8 : decode cJ10_init_2 8 = .ok (.astore_n 3, 1) := dk_78 (dk_at dksJ10_init_2_0 8 rfl rfl)
theorem dJ10_init_2_9 : decode cJ10_init_2 9 = .ok (.aload_n 1, 1) := dk_43 (dk_at dksJ10_init_2_0 9 rfl rfl)
theorem dJ10_init_2_10 : decode cJ10_init_2 10 = .ok (.invokevirtual 549, 3) := dk_182 2 37 (dk_at dksJ10_init_2_0 10 rfl rfl)
theorem dJ10_init_2_13 : decode cJ10_init_2 13 = .ok (.istore 4, 2) := dk_54 4 (dk_at dksJ10_init_2_0 13 rfl rfl)
theorem dJ10_init_2_15 : decode cJ10_init_2 15 = .ok (.aload_n 1, 1) := dk_43 (dk_at dksJ10_init_2_0 15 rfl rfl)
theorem dJ10_init_2_16 : decode cJ10_init_2 16 = .ok (.invokevirtual 1047, 3) := dk_182 4 23 (dk_at dksJ10_init_2_0 16 rfl rfl)
theorem dJ10_init_2_19 : decode cJ10_init_2 19 = .ok (.ifCond .eq 22, 3) := dk_153 0 22 (dk_at dksJ10_init_2_0 19 rfl rfl)
theorem dJ10_init_2_22 : decode cJ10_init_2 22 = .ok (.aload_n 0, 1) := dk_42 (dk_at dksJ10_init_2_0 22 rfl rfl)
theorem dJ10_init_2_23 : decode cJ10_init_2 23 = .ok (.iconst 0, 1) := dk_3 (dk_at dksJ10_init_2_0 23 rfl rfl)
theorem dJ10_init_2_24 : decode cJ10_init_2 24 = .ok (.putfield 15, 3) := dk_181 0 15 (dk_at dksJ10_init_2_1 0 rfl rfl)
theorem dJ10_init_2_27 : decode cJ10_init_2 27 = .ok (.aload_n 0, 1) := dk_42 (dk_at dksJ10_init_2_1 3 rfl rfl)
theorem dJ10_init_2_28 : decode cJ10_init_2 28 = .ok (.aload_n 3, 1) := dk_45 (dk_at dksJ10_init_2_1 4 rfl rfl)
theorem dJ10_init_2_29 : decode cJ10_init_2 29 = .ok (.iconst 0, 1) := dk_3 (dk_at dksJ10_init_2_1 5 rfl rfl)
theorem dJ10_init_2_30 : decode cJ10_init_2 30 = .ok (.iload 4, 2) := dk_21 4 (dk_at dksJ10_init_2_1 6 rfl rfl)
theorem dJ10_init_2_32 : decode cJ10_init_2 32 = .ok (.invokestatic 54, 3) := dk_184 0 54 (dk_at dksJ10_init_2_1 8 rfl rfl)
theorem dJ10_init_2_35 : decode cJ10_init_2 35 = .ok (.putfield 9, 3) := dk_181 0 9 (dk_at dksJ10_init_2_1 11 rfl rfl)
theorem dJ10_init_2_38 : decode cJ10_init_2 38 = .ok (.goto 59, 3) := dk_167 0 59 (dk_at dksJ10_init_2_1 14 rfl rfl)
theorem dJ10_init_2_41 : decode cJ10_init_2 41 = .ok (.getstatic 38, 3) := dk_178 0 38 (dk_at dksJ10_init_2_1 17 rfl rfl)
theorem dJ10_init_2_44 : decode cJ10_init_2 44 = .ok (.ifCond .eq 35, 3) := dk_153 0 35 (dk_at dksJ10_init_2_1 20 rfl rfl)
theorem dJ10_init_2_47 : decode cJ10_init_2 47 = .ok (.aload_n 1, 1) := dk_43 (dk_at dksJ10_init_2_1 23 rfl rfl)
theorem dJ10_init_2_48 : decode cJ10_init_2 48 = .ok (.getfield 1048, 3) := dk_180 4 24 (dk_at dksJ10_init_2_2 0 rfl rfl)
theorem dJ10_init_2_51 : decode cJ10_init_2 51 = .ok (.ifCond .eq 28, 3) := dk_153 0 28 (dk_at dksJ10_init_2_2 3 rfl rfl)
theorem dJ10_init_2_54 : decode cJ10_init_2 54 = .ok (.aload_n 0, 1) := dk_42 (dk_at dksJ10_init_2_2 6 rfl rfl)
theorem dJ10_init_2_55 : decode cJ10_init_2 55 = .ok (.aload_n 3, 1) := dk_45 (dk_at dksJ10_init_2_2 7 rfl rfl)
theorem dJ10_init_2_56 : decode cJ10_init_2 56 = .ok (.iconst 0, 1) := dk_3 (dk_at dksJ10_init_2_2 8 rfl rfl)
theorem dJ10_init_2_57 : decode cJ10_init_2 57 = .ok (.iload 4, 2) := dk_21 4 (dk_at dksJ10_init_2_2 9 rfl rfl)
theorem dJ10_init_2_59 : decode cJ10_init_2 59 = .ok (.invokestatic 1051, 3) := dk_184 4 27 (dk_at dksJ10_init_2_2 11 rfl rfl)
theorem dJ10_init_2_62 : decode cJ10_init_2 62 = .ok (.putfield 9, 3) := dk_181 0 9 (dk_at dksJ10_init_2_2 14 rfl rfl)
theorem dJ10_init_2_65 : decode cJ10_init_2 65 = .ok (.aload_n 0, 1) := dk_42 (dk_at dksJ10_init_2_2 17 rfl rfl)
theorem dJ10_init_2_66 : decode cJ10_init_2 66 = .ok (.aload_n 0, 1) := dk_42 (dk_at dksJ10_init_2_2 18 rfl rfl)
theorem dJ10_init_2_67 : decode cJ10_init_2 67 = .ok (.getfield 9, 3) := dk_180 0 9 (dk_at dksJ10_init_2_2 19 rfl rfl)
theorem dJ10_init_2_70 : decode cJ10_init_2 70 = .ok (.iload 4, 2) := dk_21 4 (dk_at dksJ10_init_2_2 22 rfl rfl)
theorem dJ10_init_2_72 : decode cJ10_init_2 72 = .ok (.invokestatic 47, 3) := dk_184 0 47 (dk_at dksJ10_init_2_3 0 rfl rfl)
theorem dJ10_init_2_75 : decode cJ10_init_2 75 = .ok (.putfield 15, 3) := dk_181 0 15 (dk_at dksJ10_init_2_3 3 rfl rfl)
theorem dJ10_init_2_78 : decode cJ10_init_2 78 = .ok (.return_, 1) := dk_177 (dk_at dksJ10_init_2_3 6 rfl rfl)
theorem dJ10_init_2_79 : decode cJ10_init_2 79 = .ok (.aload_n 0, 1) := dk_42 (dk_at dksJ10_init_2_3 7 rfl rfl)
theorem dJ10_init_2_80 : decode cJ10_init_2 80 = .ok (.iconst 1, 1) := dk_4 (dk_at dksJ10_init_2_3 8 rfl rfl)
theorem dJ10_init_2_81 : decode cJ10_init_2 81 = .ok (.putfield 15, 3) := dk_181 0 15 (dk_at dksJ10_init_2_3 9 rfl rfl)
theorem dJ10_init_2_84 : decode cJ10_init_2 84 = .ok (.aload_n 0, 1) := dk_42 (dk_at dksJ10_init_2_3 12 rfl rfl)
theorem dJ10_init_2_85 : decode cJ10_init_2 85 = .ok (.aload_n 3, 1) := dk_45 (dk_at dksJ10_init_2_3 13 rfl rfl)
theorem dJ10_init_2_86 : decode cJ10_init_2 86 = .ok (.iconst 0, 1) := dk_3 (dk_at dksJ10_init_2_3 14 rfl rfl)
theorem dJ10_init_2_87 : decode cJ10_init_2 87 = .ok (.iload 4, 2) := dk_21 4 (dk_at dksJ10_init_2_3 15 rfl rfl)
theorem dJ10_init_2_89 : decode cJ10_init_2 89 = .ok (.iconst 1, 1) := dk_4 (dk_at dksJ10_init_2_3 17 rfl rfl)
theorem dJ10_init_2_90 : decode cJ10_init_2 90 = .ok (.ishl, 1) := dk_120 (dk_at dksJ10_init_2_3 18 rfl rfl)
theorem dJ10_init_2_91 : decode cJ10_init_2 91 = .ok (.invokestatic 54, 3) := dk_184 0 54 (dk_at dksJ10_init_2_3 19 rfl rfl)
theorem dJ10_init_2_94 : decode cJ10_init_2 94 = .ok (.putfield 9, 3) := dk_181 0 9 (dk_at dksJ10_init_2_4 0 rfl rfl)
theorem dJ10_init_2_97 : decode cJ10_init_2 97 = .ok (.return_, 1) := dk_177 (dk_at dksJ10_init_2_4 3 rfl rfl)
def dkwJ12_checkIndex_0 : List UInt8 := [26, 27, 1, 184, 0, 105, 172]
abbrev dktJ12_checkIndex_0 : List UInt8 := dkwJ12_checkIndex_0 ++ []
theorem dksJ12_checkIndex_0 : cJ12_checkIndex.data.toList.drop 0 = dktJ12_checkIndex_0 := by decide +kernel
theorem dJ12_checkIndex_0 : decode cJ12_checkIndex 0 = .ok (.iload_n 0, 1) := dk_26 (dk_at dksJ12_checkIndex_0 0 rfl rfl)
theorem dJ12_checkIndex_1 : decode cJ12_checkIndex 1 = .ok (.iload_n 1, 1) := dk_27 (dk_at dksJ12_checkIndex_0 1 rfl rfl)
theorem dJ12_checkIndex_2 : decode cJ12_checkIndex 2 = .ok (.aconst_null, 1) := dk_1 (dk_at dksJ12_checkIndex_0 2 rfl rfl)
theorem dJ12_checkIndex_3 : decode cJ12_checkIndex 3 = .ok (.invokestatic 105, 3) := dk_184 0 105 (dk_at dksJ12_checkIndex_0 3 rfl rfl)
theorem dJ12_checkIndex_6 : decode cJ12_checkIndex 6 = .ok (.ireturn, 1) := dk_172 (dk_at dksJ12_checkIndex_0 6 rfl rfl)
def dkwJ13_checkIndex_0 : List UInt8 := [26, 155, 0, 8, 26, 27, 161, 0, 10, 44, 26, 27, 184, 0, 95, 191, 26, 172]
abbrev dktJ13_checkIndex_0 : List UInt8 := dkwJ13_checkIndex_0 ++ []
theorem dksJ13_checkIndex_0 : cJ13_checkIndex.data.toList.drop 0 = dktJ13_checkIndex_0 := by decide +kernel
theorem dJ13_checkIndex_0 : decode cJ13_checkIndex 0 = .ok (.iload_n 0, 1) := dk_26 (dk_at dksJ13_checkIndex_0 0 rfl rfl)
theorem dJ13_checkIndex_1 : decode cJ13_checkIndex 1 = .ok (.ifCond .lt 8, 3) := dk_155 0 8 (dk_at dksJ13_checkIndex_0 1 rfl rfl)
theorem dJ13_checkIndex_4 : decode cJ13_checkIndex 4 = .ok (.iload_n 0, 1) := dk_26 (dk_at dksJ13_checkIndex_0 4 rfl rfl)
theorem dJ13_checkIndex_5 : decode cJ13_checkIndex 5 = .ok (.iload_n 1, 1) := dk_27 (dk_at dksJ13_checkIndex_0 5 rfl rfl)
theorem dJ13_checkIndex_6 : decode cJ13_checkIndex 6 = .ok (.if_icmp .lt 10, 3) := dk_161 0 10 (dk_at dksJ13_checkIndex_0 6 rfl rfl)
theorem dJ13_checkIndex_9 : decode cJ13_checkIndex 9 = .ok (.aload_n 2, 1) := dk_44 (dk_at dksJ13_checkIndex_0 9 rfl rfl)
theorem dJ13_checkIndex_10 : decode cJ13_checkIndex 10 = .ok (.iload_n 0, 1) := dk_26 (dk_at dksJ13_checkIndex_0 10 rfl rfl)
theorem dJ13_checkIndex_11 : decode cJ13_checkIndex 11 = .ok (.iload_n 1, 1) := dk_27 (dk_at dksJ13_checkIndex_0 11 rfl rfl)
theorem dJ13_checkIndex_12 : decode cJ13_checkIndex 12 = .ok (.invokestatic 95, 3) := dk_184 0 95 (dk_at dksJ13_checkIndex_0 12 rfl rfl)
theorem dJ13_checkIndex_15 : decode cJ13_checkIndex 15 = .ok (.athrow, 1) := dk_191 (dk_at dksJ13_checkIndex_0 15 rfl rfl)
theorem dJ13_checkIndex_16 : decode cJ13_checkIndex 16 = .ok (.iload_n 0, 1) := dk_26 (dk_at dksJ13_checkIndex_0 16 rfl rfl)
theorem dJ13_checkIndex_17 : decode cJ13_checkIndex 17 = .ok (.ireturn, 1) := dk_172 (dk_at dksJ13_checkIndex_0 17 rfl rfl)
def dkwJ13_checkFromToIndex_0 : List UInt8 := [26, 155, 0, 13, 26, 27, 163, 0, 8, 27, 28, 164, 0, 11, 45, 26, 27, 28, 184, 0, 99, 191, 26, 172]
abbrev dktJ13_checkFromToIndex_0 : List UInt8 := dkwJ13_checkFromToIndex_0 ++ []
theorem dksJ13_checkFromToIndex_0 : cJ13_checkFromToIndex.data.toList.drop 0 = dktJ13_checkFromToIndex_0 := by decide +kernel
theorem dJ13_checkFromToIndex_0 : decode cJ13_checkFromToIndex 0 = .ok (.iload_n 0, 1) := dk_26 (dk_at dksJ13_checkFromToIndex_0 0 rfl rfl)
theorem dJ13_checkFromToIndex_1 : decode cJ13_checkFromToIndex 1 = .ok (.ifCond .lt 13, 3) := dk_155 0 13 (dk_at dksJ13_checkFromToIndex_0 1 rfl rfl)
theorem dJ13_checkFromToIndex_4 : decode cJ13_checkFromToIndex 4 = .ok (.iload_n 0, 1) := dk_26 (dk_at dksJ13_checkFromToIndex_0 4 rfl rfl)
theorem dJ13_checkFromToIndex_5 : decode cJ13_checkFromToIndex 5 = .ok (.iload_n 1, 1) := dk_27 (dk_at dksJ13_checkFromToIndex_0 5 rfl rfl)
theorem dJ13_checkFromToIndex_6 : decode cJ13_checkFromToIndex 6 = .ok (.if_icmp .gt 8, 3) := dk_163 0 8 (dk_at dksJ13_checkFromToIndex_0 6 rfl rfl)
theorem dJ13_checkFromToIndex_9 : decode cJ13_checkFromToIndex 9 = .ok (.iload_n 1, 1) := dk_27 (dk_at dksJ13_checkFromToIndex_0 9 rfl rfl)
theorem dJ13_checkFromToIndex_10 : decode cJ13_checkFromToIndex 10 = .ok (.iload_n 2, 1) := dk_28 (dk_at dksJ13_checkFromToIndex_0 10 rfl rfl)
theorem dJ13_checkFromToIndex_11 : decode cJ13_checkFromToIndex 11 = .ok (.if_icmp .le 11, 3) := dk_164 0 11 (dk_at dksJ13_checkFromToIndex_0 11 rfl rfl)
theorem dJ13_checkFromToIndex_14 : decode cJ13_checkFromToIndex 14 = .ok (.aload_n 3, 1) := dk_45 (dk_at dksJ13_checkFromToIndex_0 14 rfl rfl)
theorem dJ13_checkFromToIndex_15 : decode cJ13_checkFromToIndex 15 = .ok (.iload_n 0, 1) := dk_26 (dk_at dksJ13_checkFromToIndex_0 15 rfl rfl)
theorem dJ13_checkFromToIndex_16 : decode cJ13_checkFromToIndex 16 = .ok (.iload_n 1, 1) := dk_27 (dk_at dksJ13_checkFromToIndex_0 16 rfl rfl)
theorem dJ13_checkFromToIndex_17 : decode cJ13_checkFromToIndex 17 = .ok (.iload_n 2, 1) := dk_28 (dk_at dksJ13_checkFromToIndex_0 17 rfl rfl)
theorem dJ13_checkFromToIndex_18 : decode cJ13_checkFromToIndex 18 = .ok (.invokestatic 99, 3) := dk_184 0 99 (dk_at dksJ13_checkFromToIndex_0 18 rfl rfl)
theorem dJ13_checkFromToIndex_21 : decode cJ13_checkFromToIndex 21 = .ok (.athrow, 1) := dk_191 (dk_at dksJ13_checkFromToIndex_0 21 rfl rfl)
theorem dJ13_checkFromToIndex_22 : decode cJ13_checkFromToIndex 22 = .ok (.iload_n 0, 1) := dk_26 (dk_at dksJ13_checkFromToIndex_0 22 rfl rfl)
theorem dJ13_checkFromToIndex_23 : decode cJ13_checkFromToIndex 23 = .ok (.ireturn, 1) := dk_172 (dk_at dksJ13_checkFromToIndex_0 23 rfl rfl)
def dkwJ13_checkFromIndexSize_1 : List UInt8 := [172]
abbrev dktJ13_checkFromIndexSize_1 : List UInt8 := dkwJ13_checkFromIndexSize_1 ++ []
def dkwJ13_checkFromIndexSize_0 : List UInt8 := [28, 26, 128, 27, 128, 155, 0, 10, 27, 28, 26, 100, 164, 0, 11, 45, 26, 27, 28, 184, 0, 103, 191, 26]
abbrev dktJ13_checkFromIndexSize_0 : List UInt8 := dkwJ13_checkFromIndexSize_0 ++ dktJ13_checkFromIndexSize_1
theorem dksJ13_checkFromIndexSize_0 : cJ13_checkFromIndexSize.data.toList.drop 0 = dktJ13_checkFromIndexSize_0 := by decide +kernel
theorem dksJ13_checkFromIndexSize_1 : cJ13_checkFromIndexSize.data.toList.drop 24 = dktJ13_checkFromIndexSize_1 := dk_seg dksJ13_checkFromIndexSize_0 24 rfl rfl
theorem dJ13_checkFromIndexSize_0 : decode cJ13_checkFromIndexSize 0 = .ok (.iload_n 2, 1) := dk_28 (dk_at dksJ13_checkFromIndexSize_0 0 rfl rfl)
theorem dJ13_checkFromIndexSize_1 : decode cJ13_checkFromIndexSize 1 = .ok (.iload_n 0, 1) := dk_26 (dk_at dksJ13_checkFromIndexSize_0 1 rfl rfl)
theorem dJ13_checkFromIndexSize_2 : decode cJ13_checkFromIndexSize 2 = .ok (.ior, 1) := dk_128 (dk_at dksJ13_checkFromIndexSize_0 2 rfl rfl)
theorem dJ13_checkFromIndexSize_3 : decode cJ13_checkFromIndexSize 3 = .ok (.iload_n 1, 1) := dk_27 (dk_at dksJ13_checkFromIndexSize_0 3 rfl rfl)
theorem dJ13_checkFromIndexSize_4 : decode cJ13_checkFromIndexSize 4 = .ok (.ior, 1) := dk_128 (dk_at dksJ13_checkFromIndexSize_0 4 rfl rfl)
theorem dJ13_checkFromIndexSize_5 : decode cJ13_checkFromIndexSize 5 = .ok (.ifCond .lt 10, 3) := dk_155 0 10 (dk_at dksJ13_checkFromIndexSize_0 5 rfl rfl)
theorem dJ13_checkFromIndexSize_8 : decode cJ13_checkFromIndexSize 8 = .ok (.iload_n 1, 1) := dk_27 (dk_at dksJ13_checkFromIndexSize_0 8 rfl rfl)
theorem dJ13_checkFromIndexSize_9 : decode cJ13_checkFromIndexSize 9 = .ok (.iload_n 2, 1) := dk_28 (dk_at dksJ13_checkFromIndexSize_0 9 rfl rfl)
theorem dJ13_checkFromIndexSize_10 : decode cJ13_checkFromIndexSize 10 = .ok (.iload_n 0, 1) := dk_26 (dk_at dksJ13_checkFromIndexSize_0 10 rfl rfl)
theorem dJ13_checkFromIndexSize_11 : decode cJ13_checkFromIndexSize 11 = .ok (.isub, 1) := dk_100 (dk_at dksJ13_checkFromIndexSize_0 11 rfl rfl)
theorem dJ13_checkFromIndexSize_12 : decode cJ13_checkFromIndexSize 12 = .ok (.if_icmp .le 11, 3) := dk_164 0 11 (dk_at dksJ13_checkFromIndexSize_0 12 rfl rfl)
theorem dJ13_checkFromIndexSize_15 : decode cJ13_checkFromIndexSize 15 = .ok (.aload_n 3, 1) := dk_45 (dk_at dksJ13_checkFromIndexSize_0 15 rfl rfl)
theorem dJ13_checkFromIndexSize_16 : decode cJ13_checkFromIndexSize 16 = .ok (.iload_n 0, 1) := dk_26 (dk_at dksJ13_checkFromIndexSize_0 16 rfl rfl)
theorem dJ13_checkFromIndexSize_17 : decode cJ13_checkFromIndexSize 17 = .ok (.iload_n 1, 1) := dk_27 (dk_at dksJ13_checkFromIndexSize_0 17 rfl rfl)
theorem dJ13_checkFromIndexSize_18 : decode cJ13_checkFromIndexSize 18 = .ok (.iload_n 2, 1) := dk_28 (dk_at dksJ13_checkFromIndexSize_0 18 rfl rfl)
theorem dJ13_checkFromIndexSize_19 : decode cJ13_checkFromIndexSize 19 = .ok (.invokestatic 103, 3) := dk_184 0 103 (dk_at dksJ13_checkFromIndexSize_0 19 rfl rfl)
theorem dJ13_checkFromIndexSize_22 : decode cJ13_checkFromIndexSize 22 = .ok (.athrow, 1) := dk_191 (dk_at dksJ13_checkFromIndexSize_0 22 rfl rfl)
theorem dJ13_checkFromIndexSize_23 : decode cJ13_checkFromIndexSize 23 = .ok (.iload_n 0, 1) := dk_26 (dk_at dksJ13_checkFromIndexSize_0 23 rfl rfl)
theorem dJ13_checkFromIndexSize_24 : decode cJ13_checkFromIndexSize 24 = .ok (.ireturn, 1) := dk_172 (dk_at dksJ13_checkFromIndexSize_1 0 rfl rfl)
def dkwJ14_newLength_1 : List UInt8 := [184, 0, 201, 172]
abbrev dktJ14_newLength_1 : List UInt8 := dkwJ14_newLength_1 ++ []
def dkwJ14_newLength_0 : List UInt8 := [26, 27, 28, 184, 0, 194, 96, 62, 3, 29, 162, 0, 11, 29, 18, 200, 163, 0, 5, 29, 172, 26, 27]
abbrev dktJ14_newLength_0 : List UInt8 := dkwJ14_newLength_0 ++ dktJ14_newLength_1
theorem dksJ14_newLength_0 : cJ14_newLength.data.toList.drop 0 = dktJ14_newLength_0 := by decide +kernel
theorem dksJ14_newLength_1 : cJ14_newLength.data.toList.drop 23 = dktJ14_newLength_1 := dk_seg dksJ14_newLength_0 23 rfl rfl
theorem dJ14_newLength_0 : decode cJ14_newLength 0 = .ok (.iload_n 0, 1) := dk_26 (dk_at dksJ14_newLength_0 0 rfl rfl)
theorem dJ14_newLength_1 : decode cJ14_newLength 1 = .ok (.iload_n 1, 1) := dk_27 (dk_at dksJ14_newLength_0 1 rfl rfl)
theorem dJ14_newLength_2 : decode cJ14_newLength 2 = .ok (.iload_n 2, 1) := dk_28 (dk_at dksJ14_newLength_0 2 rfl rfl)
theorem dJ14_newLength_3 : decode cJ14_newLength 3 = .ok (.invokestatic 194, 3) := dk_184 0 194 (dk_at dksJ14_newLength_0 3 rfl rfl)
theorem dJ14_newLength_6 : decode cJ14_newLength 6 = .ok (.iadd, 1) := dk_96 (dk_at dksJ14_newLength_0 6 rfl rfl)
theorem dJ14_newLength_7 : decode cJ14_newLength 7 = .ok (.istore_n 3, 1) := dk_62 (dk_at dksJ14_newLength_0 7 rfl rfl)
theorem dJ14_newLength_8 : decode cJ14_newLength 8 = .ok (.iconst 0, 1) := dk_3 (dk_at dksJ14_newLength_0 8 rfl rfl)
theorem dJ14_newLength_9 : decode cJ14_newLength 9 = .ok (.iload_n 3, 1) := dk_29 (dk_at dksJ14_newLength_0 9 rfl rfl)
theorem dJ14_newLength_10 : decode cJ14_newLength 10 = .ok (.if_icmp .ge 11, 3) := dk_162 0 11 (dk_at dksJ14_newLength_0 10 rfl rfl)
theorem dJ14_newLength_13 : decode cJ14_newLength 13 = .ok (.iload_n 3, 1) := dk_29 (dk_at dksJ14_newLength_0 13 rfl rfl)
theorem dJ14_newLength_14 : decode cJ14_newLength 14 = .ok (.ldc 200, 2) := dk_18 200 (dk_at dksJ14_newLength_0 14 rfl rfl)
theorem dJ14_newLength_16 : decode cJ14_newLength 16 = .ok (.if_icmp .gt 5, 3) := dk_163 0 5 (dk_at dksJ14_newLength_0 16 rfl rfl)
theorem dJ14_newLength_19 : decode cJ14_newLength 19 = .ok (.iload_n 3, 1) := dk_29 (dk_at dksJ14_newLength_0 19 rfl rfl)
theorem dJ14_newLength_20 : decode cJ14_newLength 20 = .ok (.ireturn, 1) := dk_172 (dk_at dksJ14_newLength_0 20 rfl rfl)
theorem dJ14_newLength_21 : decode cJ14_newLength 21 = .ok (.iload_n 0, 1) := dk_26 (dk_at dksJ14_newLength_0 21 rfl rfl)
theorem dJ14_newLength_22 : decode cJ14_newLength 22 = .ok (.iload_n 1, 1) := dk_27 (dk_at dksJ14_newLength_0 22 rfl rfl)
theorem dJ14_newLength_23 : decode cJ14_newLength 23 = .ok (.invokestatic 201, 3) := dk_184 0 201 (dk_at dksJ14_newLength_1 0 rfl rfl)
theorem dJ14_newLength_26 : decode cJ14_newLength 26 = .ok (.ireturn, 1) := dk_172 (dk_at dksJ14_newLength_1 3 rfl rfl)
def dkwJ14_hugeLength_2 : List UInt8 := [191, 28, 18, 200, 163, 0, 6, 18, 200, 172, 28, 172]
abbrev dktJ14_hugeLength_2 : List UInt8 := dkwJ14_hugeLength_2 ++ []
def dkwJ14_hugeLength_1 : List UInt8 := [26, 182, 0, 98, 18, 208, 182, 0, 94, 27, 182, 0, 98, 18, 210, 182, 0, 94, 182, 0, 101, 183, 0, 212]
abbrev dktJ14_hugeLength_1 : List UInt8 := dkwJ14_hugeLength_1 ++ dktJ14_hugeLength_2
def dkwJ14_hugeLength_0 : List UInt8 := [26, 27, 96, 61, 28, 156, 0, 44, 187, 0, 204, 89, 187, 0, 89, 89, 183, 0, 91, 18, 206, 182, 0, 94]
abbrev dktJ14_hugeLength_0 : List UInt8 := dkwJ14_hugeLength_0 ++ dktJ14_hugeLength_1
theorem dksJ14_hugeLength_0 : cJ14_hugeLength.data.toList.drop 0 = dktJ14_hugeLength_0 := by decide +kernel
theorem dksJ14_hugeLength_1 : cJ14_hugeLength.data.toList.drop 24 = dktJ14_hugeLength_1 := dk_seg dksJ14_hugeLength_0 24 rfl rfl
theorem dksJ14_hugeLength_2 : cJ14_hugeLength.data.toList.drop 48 = dktJ14_hugeLength_2 := dk_seg dksJ14_hugeLength_1 24 rfl rfl
theorem dJ14_hugeLength_0 : decode cJ14_hugeLength 0 = .ok (.iload_n 0, 1) := dk_26 (dk_at dksJ14_hugeLength_0 0 rfl rfl)
theorem dJ14_hugeLength_1 : decode cJ14_hugeLength 1 = .ok (.iload_n 1, 1) := dk_27 (dk_at dksJ14_hugeLength_0 1 rfl rfl)
theorem dJ14_hugeLength_2 : decode cJ14_hugeLength 2 = .ok (.iadd, 1) := dk_96 (dk_at dksJ14_hugeLength_0 2 rfl rfl)
theorem dJ14_hugeLength_3 : decode cJ14_hugeLength 3 = .ok (.istore_n 2, 1) := dk_61 (dk_at dksJ14_hugeLength_0 3 rfl rfl)
theorem dJ14_hugeLength_4 : decode cJ14_hugeLength 4 = .ok (.iload_n 2, 1) := dk_28 (dk_at dksJ14_hugeLength_0 4 rfl rfl)
theorem dJ14_hugeLength_5 : decode cJ14_hugeLength 5 = .ok (.ifCond .ge 44, 3) := dk_156 0 44 (dk_at dksJ14_hugeLength_0 5 rfl rfl)
theorem dJ14_hugeLength_8 : decode cJ14_hugeLength 8 = .ok (.new 204, 3) := dk_187 0 204 (dk_at dksJ14_hugeLength_0 8 rfl rfl)
theorem dJ14_hugeLength_11 : decode cJ14_hugeLength 11 = .ok (.dup, 1) := dk_89 (dk_at dksJ14_hugeLength_0 11 rfl rfl)
theorem dJ14_hugeLength_12 : decode cJ14_hugeLength 12 = .ok (.new 89, 3) := dk_187 0 89 (dk_at dksJ14_hugeLength_0 12 rfl rfl)
theorem dJ14_hugeLength_15 : decode cJ14_hugeLength 15 = .ok (.dup, 1) := dk_89 (dk_at dksJ14_hugeLength_0 15 rfl rfl)
theorem dJ14_hugeLength_16 : decode cJ14_hugeLength 16 = .ok (.invokespecial 91, 3) := dk_183 0 91 (dk_at dksJ14_hugeLength_0 16 rfl rfl)
theorem dJ14_hugeLength_19 : decode cJ14_hugeLength 19 = .ok (.ldc 206, 2) := dk_18 206 (dk_at dksJ14_hugeLength_0 19 rfl rfl)
theorem dJ14_hugeLength_21 : decode cJ14_hugeLength 21 = .ok (.invokevirtual 94, 3) := dk_182 0 94 (dk_at dksJ14_hugeLength_0 21 rfl rfl)
theorem dJ14_hugeLength_24 : decode cJ14_hugeLength 24 = .ok (.iload_n 0, 1) := dk_26 (dk_at dksJ14_hugeLength_1 0 rfl rfl)
theorem dJ14_hugeLength_25 : decode cJ14_hugeLength 25 = .ok (.invokevirtual 98, 3) := dk_182 0 98 (dk_at dksJ14_hugeLength_1 1 rfl rfl)
theorem dJ14_hugeLength_28 : decode cJ14_hugeLength 28 = .ok (.ldc 208, 2) := dk_18 208 (dk_at dksJ14_hugeLength_1 4 rfl rfl)
theorem dJ14_hugeLength_30 : decode cJ14_hugeLength 30 = .ok (.invokevirtual 94, 3) := dk_182 0 94 (dk_at dksJ14_hugeLength_1 6 rfl rfl)
theorem dJ14_hugeLength_33 : decode cJ14_hugeLength 33 = .ok (.iload_n 1, 1) := dk_27 (dk_at dksJ14_hugeLength_1 9 rfl rfl)
theorem dJ14_hugeLength_34 : decode cJ14_hugeLength 34 = .ok (.invokevirtual 98, 3) := dk_182 0 98 (dk_at dksJ14_hugeLength_1 10 rfl rfl)
theorem dJ14_hugeLength_37 : decode cJ14_hugeLength 37 = .ok (.ldc 210, 2) := dk_18 210 (dk_at dksJ14_hugeLength_1 13 rfl rfl)
theorem dJ14_hugeLength_39 : decode cJ14_hugeLength 39 = .ok (.invokevirtual 94, 3) := dk_182 0 94 (dk_at dksJ14_hugeLength_1 15 rfl rfl)
theorem dJ14_hugeLength_42 : decode cJ14_hugeLength 42 = .ok (.invokevirtual 101, 3) := dk_182 0 101 (dk_at dksJ14_hugeLength_1 18 rfl rfl)
theorem dJ14_hugeLength_45 : decode cJ14_hugeLength 45 = .ok (.invokespecial 212, 3) := dk_183 0 212 (dk_at dksJ14_hugeLength_1 21 rfl rfl)
theorem dJ14_hugeLength_48 : decode cJ14_hugeLength 48 = .ok (.athrow, 1) := dk_191 (dk_at dksJ14_hugeLength_2 0 rfl rfl)
theorem dJ14_hugeLength_49 : decode cJ14_hugeLength 49 = .ok (.iload_n 2, 1) := dk_28 (dk_at dksJ14_hugeLength_2 1 rfl rfl)
theorem dJ14_hugeLength_50 : decode cJ14_hugeLength 50 = .ok (.ldc 200, 2) := dk_18 200 (dk_at dksJ14_hugeLength_2 2 rfl rfl)
theorem dJ14_hugeLength_52 : decode cJ14_hugeLength 52 = .ok (.if_icmp .gt 6, 3) := dk_163 0 6 (dk_at dksJ14_hugeLength_2 4 rfl rfl)
theorem dJ14_hugeLength_55 : decode cJ14_hugeLength 55 = .ok (.ldc 200, 2) := dk_18 200 (dk_at dksJ14_hugeLength_2 7 rfl rfl)
theorem dJ14_hugeLength_57 : decode cJ14_hugeLength 57 = .ok (.ireturn, 1) := dk_172 (dk_at dksJ14_hugeLength_2 9 rfl rfl)
theorem dJ14_hugeLength_58 : decode cJ14_hugeLength 58 = .ok (.iload_n 2, 1) := dk_28 (dk_at dksJ14_hugeLength_2 10 rfl rfl)
theorem dJ14_hugeLength_59 : decode cJ14_hugeLength 59 = .ok (.ireturn, 1) := dk_172 (dk_at dksJ14_hugeLength_2 11 rfl rfl)
def dkwJ15_max_0 : List UInt8 := [26, 27, 161, 0, 7, 26, 167, 0, 4, 27, 172]
abbrev dktJ15_max_0 : List UInt8 := dkwJ15_max_0 ++ []
theorem dksJ15_max_0 : cJ15_max.data.toList.drop 0 = dktJ15_max_0 := by decide +kernel
theorem dJ15_max_0 : decode cJ15_max 0 = .ok (.iload_n 0, 1) := dk_26 (dk_at dksJ15_max_0 0 rfl rfl)
theorem dJ15_max_1 : decode cJ15_max 1 = .ok (.iload_n 1, 1) := dk_27 (dk_at dksJ15_max_0 1 rfl rfl)
theorem dJ15_max_2 : decode cJ15_max 2 = .ok (.if_icmp .lt 7, 3) := dk_161 0 7 (dk_at dksJ15_max_0 2 rfl rfl)
theorem dJ15_max_5 : decode cJ15_max 5 = .ok (.iload_n 0, 1) := dk_26 (dk_at dksJ15_max_0 5 rfl rfl)
theorem dJ15_max_6 : decode cJ15_max 6 = .ok (.goto 4, 3) := dk_167 0 4 (dk_at dksJ15_max_0 6 rfl rfl)
theorem dJ15_max_9 : decode cJ15_max 9 = .ok (.iload_n 1, 1) := dk_27 (dk_at dksJ15_max_0 9 rfl rfl)
theorem dJ15_max_10 : decode cJ15_max 10 = .ok (.ireturn, 1) := dk_172 (dk_at dksJ15_max_0 10 rfl rfl)
def dkwJ15_min_0 : List UInt8 := [26, 27, 163, 0, 7, 26, 167, 0, 4, 27, 172]
abbrev dktJ15_min_0 : List UInt8 := dkwJ15_min_0 ++ []
theorem dksJ15_min_0 : cJ15_min.data.toList.drop 0 = dktJ15_min_0 := by decide +kernel
theorem dJ15_min_0 : decode cJ15_min 0 = .ok (.iload_n 0, 1) := dk_26 (dk_at dksJ15_min_0 0 rfl rfl)
theorem dJ15_min_1 : decode cJ15_min 1 = .ok (.iload_n 1, 1) := dk_27 (dk_at dksJ15_min_0 1 rfl rfl)
theorem dJ15_min_2 : decode cJ15_min 2 = .ok (.if_icmp .gt 7, 3) := dk_163 0 7 (dk_at dksJ15_min_0 2 rfl rfl)
theorem dJ15_min_5 : decode cJ15_min 5 = .ok (.iload_n 0, 1) := dk_26 (dk_at dksJ15_min_0 5 rfl rfl)
theorem dJ15_min_6 : decode cJ15_min 6 = .ok (.goto 4, 3) := dk_167 0 4 (dk_at dksJ15_min_0 6 rfl rfl)
theorem dJ15_min_9 : decode cJ15_min 9 = .ok (.iload_n 1, 1) := dk_27 (dk_at dksJ15_min_0 9 rfl rfl)
theorem dJ15_min_10 : decode cJ15_min 10 = .ok (.ireturn, 1) := dk_172 (dk_at dksJ15_min_0 10 rfl rfl)
def dkwJ16_copyOf_0 : List UInt8 := [42, 27, 42, 182, 0, 86, 184, 1, 44, 176]
abbrev dktJ16_copyOf_0 : List UInt8 := dkwJ16_copyOf_0 ++ []
theorem dksJ16_copyOf_0 : cJ16_copyOf.data.toList.drop 0 = dktJ16_copyOf_0 := by decide +kernel
theorem dJ16_copyOf_0 : decode cJ16_copyOf 0 = .ok (.aload_n 0, 1) := dk_42 (dk_at dksJ16_copyOf_0 0 rfl rfl)
theorem dJ16_copyOf_1 : decode cJ16_copyOf 1 = .ok (.iload_n 1, 1) := dk_27 (dk_at dksJ16_copyOf_0 1 rfl rfl)
theorem dJ16_copyOf_2 : decode cJ16_copyOf 2 = .ok (.aload_n 0, 1) := dk_42 (dk_at dksJ16_copyOf_0 2 rfl rfl)
theorem dJ16_copyOf_3 : decode cJ16_copyOf 3 = .ok (.invokevirtual 86, 3) := dk_182 0 86 (dk_at dksJ16_copyOf_0 3 rfl rfl)
theorem dJ16_copyOf_6 : decode cJ16_copyOf 6 = .ok (.invokestatic 300, 3) := dk_184 1 44 (dk_at dksJ16_copyOf_0 6 rfl rfl)
theorem dJ16_copyOf_9 : decode cJ16_copyOf 9 = .ok (.areturn, 1) := dk_176 (dk_at dksJ16_copyOf_0 9 rfl rfl)
def dkwJ16_copyOf_2_1 : List UInt8 := [78, 42, 3, 45, 3, 42, 190, 27, 184, 1, 48, 184, 0, 150, 45, 176]
abbrev dktJ16_copyOf_2_1 : List UInt8 := dkwJ16_copyOf_2_1 ++ []
def dkwJ16_copyOf_2_0 : List UInt8 := [44, 18, 110, 166, 0, 10, 27, 189, 0, 2, 167, 0, 14, 44, 182, 0, 90, 27, 184, 0, 95, 192, 0, 110]
abbrev dktJ16_copyOf_2_0 : List UInt8 := dkwJ16_copyOf_2_0 ++ dktJ16_copyOf_2_1
theorem dksJ16_copyOf_2_0 : cJ16_copyOf_2.data.toList.drop 0 = dktJ16_copyOf_2_0 := by decide +kernel
theorem dksJ16_copyOf_2_1 : cJ16_copyOf_2.data.toList.drop 24 = dktJ16_copyOf_2_1 := dk_seg dksJ16_copyOf_2_0 24 rfl rfl
theorem dJ16_copyOf_2_0 : decode cJ16_copyOf_2 0 = .ok (.aload_n 2, 1) := dk_44 (dk_at dksJ16_copyOf_2_0 0 rfl rfl)
theorem dJ16_copyOf_2_1 : decode cJ16_copyOf_2 1 = .ok (.ldc 110, 2) := dk_18 110 (dk_at dksJ16_copyOf_2_0 1 rfl rfl)
theorem dJ16_copyOf_2_3 : decode cJ16_copyOf_2 3 = .ok (.if_acmp .ne 10, 3) := dk_166 0 10 (dk_at dksJ16_copyOf_2_0 3 rfl rfl)
theorem dJ16_copyOf_2_6 : decode cJ16_copyOf_2 6 = .ok (.iload_n 1, 1) := dk_27 (dk_at dksJ16_copyOf_2_0 6 rfl rfl)
theorem dJ16_copyOf_2_7 : decode cJ16_copyOf_2 7 = .ok (.anewarray 2, 3) := dk_189 0 2 (dk_at dksJ16_copyOf_2_0 7 rfl rfl)
theorem dJ16_copyOf_2_10 : decode cJ16_copyOf_2 10 = .ok (.goto 14, 3) := dk_167 0 14 (dk_at dksJ16_copyOf_2_0 10 rfl rfl)
theorem dJ16_copyOf_2_13 : decode cJ16_copyOf_2 13 = .ok (.aload_n 2, 1) := dk_44 (dk_at dksJ16_copyOf_2_0 13 rfl rfl)
theorem dJ16_copyOf_2_14 : decode cJ16_copyOf_2 14 = .ok (.invokevirtual 90, 3) := dk_182 0 90 (dk_at dksJ16_copyOf_2_0 14 rfl rfl)
theorem dJ16_copyOf_2_17 : decode cJ16_copyOf_2 17 = .ok (.iload_n 1, 1) := dk_27 (dk_at dksJ16_copyOf_2_0 17 rfl rfl)
theorem dJ16_copyOf_2_18 : decode cJ16_copyOf_2 18 = .ok (.invokestatic 95, 3) := dk_184 0 95 (dk_at dksJ16_copyOf_2_0 18 rfl rfl)
theorem dJ16_copyOf_2_21 : decode cJ16_copyOf_2 21 = .ok (.checkcast 110, 3) := dk_192 0 110 (dk_at dksJ16_copyOf_2_0 21 rfl rfl)
theorem dJ16_copyOf_2_24 : decode cJ16_copyOf_2 24 = .ok (.astore_n 3, 1) := dk_78 (dk_at dksJ16_copyOf_2_1 0 rfl rfl)
theorem dJ16_copyOf_2_25 : decode cJ16_copyOf_2 25 = .ok (.aload_n 0, 1) := dk_42 (dk_at dksJ16_copyOf_2_1 1 rfl rfl)
theorem dJ16_copyOf_2_26 : decode cJ16_copyOf_2 26 = .ok (.iconst 0, 1) := dk_3 (dk_at dksJ16_copyOf_2_1 2 rfl rfl)
theorem dJ16_copyOf_2_27 : decode cJ16_copyOf_2 27 = .ok (.aload_n 3, 1) := dk_45 (dk_at dksJ16_copyOf_2_1 3 rfl rfl)
theorem dJ16_copyOf_2_28 : decode cJ16_copyOf_2 28 = .ok (.iconst 0, 1) := dk_3 (dk_at dksJ16_copyOf_2_1 4 rfl rfl)
theorem dJ16_copyOf_2_29 : decode cJ16_copyOf_2 29 = .ok (.aload_n 0, 1) := dk_42 (dk_at dksJ16_copyOf_2_1 5 rfl rfl)
theorem dJ16_copyOf_2_30 : decode cJ16_copyOf_2 30 = .ok (.arraylength, 1) := dk_190 (dk_at dksJ16_copyOf_2_1 6 rfl rfl)
theorem dJ16_copyOf_2_31 : decode cJ16_copyOf_2 31 = .ok (.iload_n 1, 1) := dk_27 (dk_at dksJ16_copyOf_2_1 7 rfl rfl)
theorem dJ16_copyOf_2_32 : decode cJ16_copyOf_2 32 = .ok (.invokestatic 304, 3) := dk_184 1 48 (dk_at dksJ16_copyOf_2_1 8 rfl rfl)
theorem dJ16_copyOf_2_35 : decode cJ16_copyOf_2 35 = .ok (.invokestatic 150, 3) := dk_184 0 150 (dk_at dksJ16_copyOf_2_1 11 rfl rfl)
theorem dJ16_copyOf_2_38 : decode cJ16_copyOf_2 38 = .ok (.aload_n 3, 1) := dk_45 (dk_at dksJ16_copyOf_2_1 14 rfl rfl)
theorem dJ16_copyOf_2_39 : decode cJ16_copyOf_2 39 = .ok (.areturn, 1) := dk_176 (dk_at dksJ16_copyOf_2_1 15 rfl rfl)
def dkwJ16_copyOf_3_1 : List UInt8 := [27, 184, 1, 48, 184, 0, 150, 44, 176]
abbrev dktJ16_copyOf_3_1 : List UInt8 := dkwJ16_copyOf_3_1 ++ []
def dkwJ16_copyOf_3_0 : List UInt8 := [27, 42, 190, 160, 0, 11, 42, 182, 1, 54, 192, 1, 55, 176, 27, 188, 8, 77, 42, 3, 44, 3, 42, 190]
abbrev dktJ16_copyOf_3_0 : List UInt8 := dkwJ16_copyOf_3_0 ++ dktJ16_copyOf_3_1
theorem dksJ16_copyOf_3_0 : cJ16_copyOf_3.data.toList.drop 0 = dktJ16_copyOf_3_0 := by decide +kernel
theorem dksJ16_copyOf_3_1 : cJ16_copyOf_3.data.toList.drop 24 = dktJ16_copyOf_3_1 := dk_seg dksJ16_copyOf_3_0 24 rfl rfl
theorem dJ16_copyOf_3_0 : decode cJ16_copyOf_3 0 = .ok (.iload_n 1, 1) := dk_27 (dk_at dksJ16_copyOf_3_0 0 rfl rfl)
theorem dJ16_copyOf_3_1 : decode cJ16_copyOf_3 1 = .ok (.aload_n 0, 1) := dk_42 (dk_at dksJ16_copyOf_3_0 1 rfl rfl)
theorem dJ16_copyOf_3_2 : decode cJ16_copyOf_3 2 = .ok (.arraylength, 1) := dk_190 (dk_at dksJ16_copyOf_3_0 2 rfl rfl)
theorem dJ16_copyOf_3_3 : decode cJ16_copyOf_3 3 = .ok (.if_icmp .ne 11, 3) := dk_160 0 11 (dk_at dksJ16_copyOf_3_0 3 rfl rfl)
theorem dJ16_copyOf_3_6 : decode cJ16_copyOf_3 6 = .ok (.aload_n 0, 1) := dk_42 (dk_at dksJ16_copyOf_3_0 6 rfl rfl)
theorem dJ16_copyOf_3_7 : decode cJ16_copyOf_3 7 = .ok (.invokevirtual 310, 3) := dk_182 1 54 (dk_at dksJ16_copyOf_3_0 7 rfl rfl)
theorem dJ16_copyOf_3_10 : decode cJ16_copyOf_3 10 = .ok (.checkcast 311, 3) := dk_192 1 55 (dk_at dksJ16_copyOf_3_0 10 rfl rfl)
theorem dJ16_copyOf_3_13 : decode cJ16_copyOf_3 13 = .ok (.areturn, 1) := dk_176 (dk_at dksJ16_copyOf_3_0 13 rfl rfl)
theorem dJ16_copyOf_3_14 : decode cJ16_copyOf_3 14 = .ok (.iload_n 1, 1) := dk_27 (dk_at dksJ16_copyOf_3_0 14 rfl rfl)
theorem dJ16_copyOf_3_15 : decode cJ16_copyOf_3 15 = .ok (.newarray .byte, 2) := dk_188_8 (dk_at dksJ16_copyOf_3_0 15 rfl rfl)
theorem dJ16_copyOf_3_17 : decode cJ16_copyOf_3 17 = .ok (.astore_n 2, 1) := dk_77 (dk_at dksJ16_copyOf_3_0 17 rfl rfl)
theorem dJ16_copyOf_3_18 : decode cJ16_copyOf_3 18 = .ok (.aload_n 0, 1) := dk_42 (dk_at dksJ16_copyOf_3_0 18 rfl rfl)
theorem dJ16_copyOf_3_19 : decode cJ16_copyOf_3 19 = .ok (.iconst 0, 1) := dk_3 (dk_at dksJ16_copyOf_3_0 19 rfl rfl)
theorem dJ16_copyOf_3_20 : decode cJ16_copyOf_3 20 = .ok (.aload_n 2, 1) := dk_44 (dk_at dksJ16_copyOf_3_0 20 rfl rfl)
theorem dJ16_copyOf_3_21 : decode cJ16_copyOf_3 21 = .ok (.iconst 0, 1) := dk_3 (dk_at dksJ16_copyOf_3_0 21 rfl rfl)
theorem dJ16_copyOf_3_22 : decode cJ16_copyOf_3 22 = .ok (.aload_n 0, 1) := dk_42 (dk_at dksJ16_copyOf_3_0 22 rfl rfl)
theorem dJ16_copyOf_3_23 : decode cJ16_copyOf_3 23 = .ok (.arraylength, 1) := dk_190 (dk_at dksJ16_copyOf_3_0 23 rfl rfl)
theorem dJ16_copyOf_3_24 : decode cJ16_copyOf_3 24 = .ok (.iload_n 1, 1) := dk_27 (dk_at dksJ16_copyOf_3_1 0 rfl rfl)
theorem dJ16_copyOf_3_25 : decode cJ16_copyOf_3 25 = .ok (.invokestatic 304, 3) := dk_184 1 48 (dk_at dksJ16_copyOf_3_1 1 rfl rfl)
theorem dJ16_copyOf_3_28 : decode cJ16_copyOf_3 28 = .ok (.invokestatic 150, 3) := dk_184 0 150 (dk_at dksJ16_copyOf_3_1 4 rfl rfl)
theorem dJ16_copyOf_3_31 : decode cJ16_copyOf_3 31 = .ok (.aload_n 2, 1) := dk_44 (dk_at dksJ16_copyOf_3_1 7 rfl rfl)
theorem dJ16_copyOf_3_32 : decode cJ16_copyOf_3 32 = .ok (.areturn, 1) := dk_176 (dk_at dksJ16_copyOf_3_1 8 rfl rfl)
def dkwJ16_copyOfRange_1 : List UInt8 := [176]
abbrev dktJ16_copyOfRange_1 : List UInt8 := dkwJ16_copyOfRange_1 ++ []
def dkwJ16_copyOfRange_0 : List UInt8 := [27, 154, 0, 9, 28, 42, 190, 159, 0, 10, 42, 27, 28, 184, 1, 83, 176, 42, 182, 1, 54, 192, 1, 55]
abbrev dktJ16_copyOfRange_0 : List UInt8 := dkwJ16_copyOfRange_0 ++ dktJ16_copyOfRange_1
theorem dksJ16_copyOfRange_0 : cJ16_copyOfRange.data.toList.drop 0 = dktJ16_copyOfRange_0 := by decide +kernel
theorem dksJ16_copyOfRange_1 : cJ16_copyOfRange.data.toList.drop 24 = dktJ16_copyOfRange_1 := dk_seg dksJ16_copyOfRange_0 24 rfl rfl
theorem dJ16_copyOfRange_0 : decode cJ16_copyOfRange 0 = .ok (.iload_n 1, 1) := dk_27 (dk_at dksJ16_copyOfRange_0 0 rfl rfl)
theorem dJ16_copyOfRange_1 : decode cJ16_copyOfRange 1 = .ok (.ifCond .ne 9, 3) := dk_154 0 9 (dk_at dksJ16_copyOfRange_0 1 rfl rfl)
theorem dJ16_copyOfRange_4 : decode cJ16_copyOfRange 4 = .ok (.iload_n 2, 1) := dk_28 (dk_at dksJ16_copyOfRange_0 4 rfl rfl)
theorem dJ16_copyOfRange_5 : decode cJ16_copyOfRange 5 = .ok (.aload_n 0, 1) := dk_42 (dk_at dksJ16_copyOfRange_0 5 rfl rfl)
theorem dJ16_copyOfRange_6 : decode cJ16_copyOfRange 6 = .ok (.arraylength, 1) := dk_190 (dk_at dksJ16_copyOfRange_0 6 rfl rfl)
theorem dJ16_copyOfRange_7 : decode cJ16_copyOfRange 7 = .ok (.if_icmp .eq 10, 3) := dk_159 0 10 (dk_at dksJ16_copyOfRange_0 7 rfl rfl)
theorem dJ16_copyOfRange_10 : decode cJ16_copyOfRange 10 = .ok (.aload_n 0, 1) := dk_42 (dk_at dksJ16_copyOfRange_0 10 rfl rfl)
theorem dJ16_copyOfRange_11 : decode cJ16_copyOfRange 11 = .ok (.iload_n 1, 1) := dk_27 (dk_at dksJ16_copyOfRange_0 11 rfl rfl)
theorem dJ16_copyOfRange_12 : decode cJ16_copyOfRange 12 = .ok (.iload_n 2, 1) := dk_28 (dk_at dksJ16_copyOfRange_0 12 rfl rfl)
theorem dJ16_copyOfRange_13 : decode cJ16_copyOfRange 13 = .ok (.invokestatic 339, 3) := dk_184 1 83 (dk_at dksJ16_copyOfRange_0 13 rfl rfl)
theorem dJ16_copyOfRange_16 : decode cJ16_copyOfRange 16 = .ok (.areturn, 1) := dk_176 (dk_at dksJ16_copyOfRange_0 16 rfl rfl)
theorem dJ16_copyOfRange_17 : decode cJ16_copyOfRange 17 = .ok (.aload_n 0, 1) := dk_42 (dk_at dksJ16_copyOfRange_0 17 rfl rfl)
theorem dJ16_copyOfRange_18 : decode cJ16_copyOfRange 18 = .ok (.invokevirtual 310, 3) := dk_182 1 54 (dk_at dksJ16_copyOfRange_0 18 rfl rfl)
theorem dJ16_copyOfRange_21 : decode cJ16_copyOfRange 21 = .ok (.checkcast 311, 3) := dk_192 1 55 (dk_at dksJ16_copyOfRange_0 21 rfl rfl)
theorem dJ16_copyOfRange_24 : decode cJ16_copyOfRange 24 = .ok (.areturn, 1) := dk_176 (dk_at dksJ16_copyOfRange_1 0 rfl rfl)
def dkwJ16_copyOfRangeByte_1 : List UInt8 := [184, 1, 48, 184, 0, 150, 25, 4, 176]
abbrev dktJ16_copyOfRangeByte_1 : List UInt8 := dkwJ16_copyOfRangeByte_1 ++ []
def dkwJ16_copyOfRangeByte_0 : List UInt8 := [27, 28, 184, 1, 87, 28, 27, 100, 62, 29, 188, 8, 58, 4, 42, 27, 25, 4, 3, 42, 190, 27, 100, 29]
abbrev dktJ16_copyOfRangeByte_0 : List UInt8 := dkwJ16_copyOfRangeByte_0 ++ dktJ16_copyOfRangeByte_1
theorem dksJ16_copyOfRangeByte_0 : cJ16_copyOfRangeByte.data.toList.drop 0 = dktJ16_copyOfRangeByte_0 := by decide +kernel
theorem dksJ16_copyOfRangeByte_1 : cJ16_copyOfRangeByte.data.toList.drop 24 = dktJ16_copyOfRangeByte_1 := dk_seg dksJ16_copyOfRangeByte_0 24 rfl rfl
theorem dJ16_copyOfRangeByte_0 : decode cJ16_copyOfRangeByte 0 = .ok (.iload_n 1, 1) := dk_27 (dk_at dksJ16_copyOfRangeByte_0 0 rfl rfl)
theorem dJ16_copyOfRangeByte_1 : decode cJ16_copyOfRangeByte 1 = .ok (.iload_n 2, 1) := dk_28 (dk_at dksJ16_copyOfRangeByte_0 1 rfl rfl)
theorem dJ16_copyOfRangeByte_2 : decode cJ16_copyOfRangeByte 2 = .ok (.invokestatic 343, 3) := dk_184 1 87 (dk_at dksJ16_copyOfRangeByte_0 2 rfl rfl)
theorem dJ16_copyOfRangeByte_5 : decode cJ16_copyOfRangeByte 5 = .ok (.iload_n 2, 1) := dk_28 (dk_at dksJ16_copyOfRangeByte_0 5 rfl rfl)
theorem dJ16_copyOfRangeByte_6 : decode cJ16_copyOfRangeByte 6 = .ok (.iload_n 1, 1) := dk_27 (dk_at dksJ16_copyOfRangeByte_0 6 rfl rfl)
theorem dJ16_copyOfRangeByte_7 : decode cJ16_copyOfRangeByte 7 = .ok (.isub, 1) := dk_100 (dk_at dksJ16_copyOfRangeByte_0 7 rfl rfl)
theorem dJ16_copyOfRangeByte_8 : decode cJ16_copyOfRangeByte 8 = .ok (.istore_n 3, 1) := dk_62 (dk_at dksJ16_copyOfRangeByte_0 8 rfl rfl)
theorem dJ16_copyOfRangeByte_9 : decode cJ16_copyOfRangeByte 9 = .ok (.iload_n 3, 1) := dk_29 (dk_at dksJ16_copyOfRangeByte_0 9 rfl rfl)
theorem dJ16_copyOfRangeByte_10 : decode cJ16_copyOfRangeByte 10 = .ok (.newarray .byte, 2) := dk_188_8 (dk_at dksJ16_copyOfRangeByte_0 10 rfl rfl)
theorem dJ16_copyOfRangeByte_12 : decode cJ16_copyOfRangeByte 12 = .ok (.astore 4, 2) := dk_58 4 (dk_at dksJ16_copyOfRangeByte_0 12 rfl rfl)
theorem dJ16_copyOfRangeByte_14 : decode cJ16_copyOfRangeByte 14 = .ok (.aload_n 0, 1) := dk_42 (dk_at dksJ16_copyOfRangeByte_0 14 rfl rfl)
theorem dJ16_copyOfRangeByte_15 : decode cJ16_copyOfRangeByte 15 = .ok (.iload_n 1, 1) := dk_27 (dk_at dksJ16_copyOfRangeByte_0 15 rfl rfl)
theorem dJ16_copyOfRangeByte_16 : decode cJ16_copyOfRangeByte 16 = .ok (.aload 4, 2) := dk_25 4 (dk_at dksJ16_copyOfRangeByte_0 16 rfl rfl)
theorem dJ16_copyOfRangeByte_18 : decode cJ16_copyOfRangeByte 18 = .ok (.iconst 0, 1) := dk_3 (dk_at dksJ16_copyOfRangeByte_0 18 rfl rfl)
theorem dJ16_copyOfRangeByte_19 : decode cJ16_copyOfRangeByte 19 = .ok (.aload_n 0, 1) := dk_42 (dk_at dksJ16_copyOfRangeByte_0 19 rfl rfl)
theorem dJ16_copyOfRangeByte_20 : decode cJ16_copyOfRangeByte 20 = .ok (.arraylength, 1) := dk_190 (dk_at dksJ16_copyOfRangeByte_0 20 rfl rfl)
theorem dJ16_copyOfRangeByte_21 : decode cJ16_copyOfRangeByte 21 = .ok (.iload_n 1, 1) := dk_27 (dk_at dksJ16_copyOfRangeByte_0 21 rfl rfl)
theorem dJ16_copyOfRangeByte_22 : decode cJ16_copyOfRangeByte 22 = .ok (.isub, 1) := dk_100 (dk_at dksJ16_copyOfRangeByte_0 22 rfl rfl)
theorem dJ16_copyOfRangeByte_23 : decode cJ16_copyOfRangeByte 23 = .ok (.iload_n 3, 1) := dk_29 (dk_at dksJ16_copyOfRangeByte_0 23 rfl rfl)
theorem dJ16_copyOfRangeByte_24 : decode cJ16_copyOfRangeByte 24 = .ok (.invokestatic 304, 3) := dk_184 1 48 (dk_at dksJ16_copyOfRangeByte_1 0 rfl rfl)
theorem dJ16_copyOfRangeByte_27 : decode cJ16_copyOfRangeByte 27 = .ok (.invokestatic 150, 3) := dk_184 0 150 (dk_at dksJ16_copyOfRangeByte_1 3 rfl rfl)
theorem dJ16_copyOfRangeByte_30 : decode cJ16_copyOfRangeByte 30 = .ok (.aload 4, 2) := dk_25 4 (dk_at dksJ16_copyOfRangeByte_1 6 rfl rfl)
theorem dJ16_copyOfRangeByte_32 : decode cJ16_copyOfRangeByte 32 = .ok (.areturn, 1) := dk_176 (dk_at dksJ16_copyOfRangeByte_1 8 rfl rfl)
def dkwJ16_checkLength_1 : List UInt8 := [182, 0, 50, 27, 182, 0, 54, 182, 0, 61, 183, 0, 65, 191, 177]
abbrev dktJ16_checkLength_1 : List UInt8 := dkwJ16_checkLength_1 ++ []
def dkwJ16_checkLength_0 : List UInt8 := [27, 26, 162, 0, 35, 187, 0, 43, 89, 187, 0, 45, 89, 183, 0, 47, 26, 182, 0, 54, 19, 1, 81]
abbrev dktJ16_checkLength_0 : List UInt8 := dkwJ16_checkLength_0 ++ dktJ16_checkLength_1
theorem dksJ16_checkLength_0 : cJ16_checkLength.data.toList.drop 0 = dktJ16_checkLength_0 := by decide +kernel
theorem dksJ16_checkLength_1 : cJ16_checkLength.data.toList.drop 23 = dktJ16_checkLength_1 := dk_seg dksJ16_checkLength_0 23 rfl rfl
theorem dJ16_checkLength_0 : decode cJ16_checkLength 0 = .ok (.iload_n 1, 1) := dk_27 (dk_at dksJ16_checkLength_0 0 rfl rfl)
theorem dJ16_checkLength_1 : decode cJ16_checkLength 1 = .ok (.iload_n 0, 1) := dk_26 (dk_at dksJ16_checkLength_0 1 rfl rfl)
theorem dJ16_checkLength_2 : decode cJ16_checkLength 2 = .ok (.if_icmp .ge 35, 3) := dk_162 0 35 (dk_at dksJ16_checkLength_0 2 rfl rfl)
theorem dJ16_checkLength_5 : decode cJ16_checkLength 5 = .ok (.new 43, 3) := dk_187 0 43 (dk_at dksJ16_checkLength_0 5 rfl rfl)
theorem dJ16_checkLength_8 : decode cJ16_checkLength 8 = .ok (.dup, 1) := dk_89 (dk_at dksJ16_checkLength_0 8 rfl rfl)
theorem dJ16_checkLength_9 : decode cJ16_checkLength 9 = .ok (.new 45, 3) := dk_187 0 45 (dk_at dksJ16_checkLength_0 9 rfl rfl)
theorem dJ16_checkLength_12 : decode cJ16_checkLength 12 = .ok (.dup, 1) := dk_89 (dk_at dksJ16_checkLength_0 12 rfl rfl)
theorem dJ16_checkLength_13 : decode cJ16_checkLength 13 = .ok (.invokespecial 47, 3) := dk_183 0 47 (dk_at dksJ16_checkLength_0 13 rfl rfl)
theorem dJ16_checkLength_16 : decode cJ16_checkLength 16 = .ok (.iload_n 0, 1) := dk_26 (dk_at dksJ16_checkLength_0 16 rfl rfl)
theorem dJ16_checkLength_17 : decode cJ16_checkLength 17 = .ok (.invokevirtual 54, 3) := dk_182 0 54 (dk_at dksJ16_checkLength_0 17 rfl rfl)
theorem dJ16_checkLength_20 : decode cJ16_checkLength 20 = .ok (.ldc_w 337, 3) := dk_19 1 81 (dk_at dksJ16_checkLength_0 20 rfl rfl)
theorem dJ16_checkLength_23 : decode cJ16_checkLength 23 = .ok (.invokevirtual 50, 3) := dk_182 0 50 (dk_at dksJ16_checkLength_1 0 rfl rfl)
theorem dJ16_checkLength_26 : decode cJ16_checkLength 26 = .ok (.iload_n 1, 1) := dk_27 (dk_at dksJ16_checkLength_1 3 rfl rfl)
theorem dJ16_checkLength_27 : decode cJ16_checkLength 27 = .ok (.invokevirtual 54, 3) := dk_182 0 54 (dk_at dksJ16_checkLength_1 4 rfl rfl)
theorem dJ16_checkLength_30 : decode cJ16_checkLength 30 = .ok (.invokevirtual 61, 3) := dk_182 0 61 (dk_at dksJ16_checkLength_1 7 rfl rfl)
theorem dJ16_checkLength_33 : decode cJ16_checkLength 33 = .ok (.invokespecial 65, 3) := dk_183 0 65 (dk_at dksJ16_checkLength_1 10 rfl rfl)
theorem dJ16_checkLength_36 : decode cJ16_checkLength 36 = .ok (.athrow, 1) := dk_191 (dk_at dksJ16_checkLength_1 13 rfl rfl)
theorem dJ16_checkLength_37 : decode cJ16_checkLength 37 = .ok (.return_, 1) := dk_177 (dk_at dksJ16_checkLength_1 14 rfl rfl)
def dkwJ16_fill_1 : List UInt8 := [167, 255, 242, 177]
abbrev dktJ16_fill_1 : List UInt8 := dkwJ16_fill_1 ++ []
def dkwJ16_fill_0 : List UInt8 := [42, 190, 27, 28, 184, 0, 13, 27, 54, 4, 21, 4, 28, 162, 0, 14, 42, 21, 4, 29, 84, 132, 4, 1]
abbrev dktJ16_fill_0 : List UInt8 := dkwJ16_fill_0 ++ dktJ16_fill_1
theorem dksJ16_fill_0 : cJ16_fill.data.toList.drop 0 = dktJ16_fill_0 := by decide +kernel
theorem dksJ16_fill_1 : cJ16_fill.data.toList.drop 24 = dktJ16_fill_1 := dk_seg dksJ16_fill_0 24 rfl rfl
theorem dJ16_fill_0 : decode cJ16_fill 0 = .ok (.aload_n 0, 1) := dk_42 (dk_at dksJ16_fill_0 0 rfl rfl)
theorem dJ16_fill_1 : decode cJ16_fill 1 = .ok (.arraylength, 1) := dk_190 (dk_at dksJ16_fill_0 1 rfl rfl)
theorem dJ16_fill_2 : decode cJ16_fill 2 = .ok (.iload_n 1, 1) := dk_27 (dk_at dksJ16_fill_0 2 rfl rfl)
theorem dJ16_fill_3 : decode cJ16_fill 3 = .ok (.iload_n 2, 1) := dk_28 (dk_at dksJ16_fill_0 3 rfl rfl)
theorem dJ16_fill_4 : decode cJ16_fill 4 = .ok (.invokestatic 13, 3) := dk_184 0 13 (dk_at dksJ16_fill_0 4 rfl rfl)
theorem dJ16_fill_7 : decode cJ16_fill 7 = .ok (.iload_n 1, 1) := dk_27 (dk_at dksJ16_fill_0 7 rfl rfl)
theorem dJ16_fill_8 : decode cJ16_fill 8 = .ok (.istore 4, 2) := dk_54 4 (dk_at dksJ16_fill_0 8 rfl rfl)
theorem dJ16_fill_10 : decode cJ16_fill 10 = .ok (.iload 4, 2) := dk_21 4 (dk_at dksJ16_fill_0 10 rfl rfl)
theorem dJ16_fill_12 : decode cJ16_fill 12 = .ok (.iload_n 2, 1) := dk_28 (dk_at dksJ16_fill_0 12 rfl rfl)
theorem dJ16_fill_13 : decode cJ16_fill 13 = .ok (.if_icmp .ge 14, 3) := dk_162 0 14 (dk_at dksJ16_fill_0 13 rfl rfl)
theorem dJ16_fill_16 : decode cJ16_fill 16 = .ok (.aload_n 0, 1) := dk_42 (dk_at dksJ16_fill_0 16 rfl rfl)
theorem dJ16_fill_17 : decode cJ16_fill 17 = .ok (.iload 4, 2) := dk_21 4 (dk_at dksJ16_fill_0 17 rfl rfl)
theorem dJ16_fill_19 : decode cJ16_fill 19 = .ok (.iload_n 3, 1) := dk_29 (dk_at dksJ16_fill_0 19 rfl rfl)
theorem dJ16_fill_20 : decode cJ16_fill 20 = .ok (.bastore, 1) := dk_84 (dk_at dksJ16_fill_0 20 rfl rfl)
theorem dJ16_fill_21 : decode cJ16_fill 21 = .ok (.iinc 4 1, 3) := dk_132 4 1 (dk_at dksJ16_fill_0 21 rfl rfl)
theorem dJ16_fill_24 : decode cJ16_fill 24 = .ok (.goto (-14), 3) := dk_167 255 242 (dk_at dksJ16_fill_1 0 rfl rfl)
theorem dJ16_fill_27 : decode cJ16_fill 27 = .ok (.return_, 1) := dk_177 (dk_at dksJ16_fill_1 3 rfl rfl)
def dkwJ16_rangeCheck_3 : List UInt8 := [183, 0, 70, 191, 177]
abbrev dktJ16_rangeCheck_3 : List UInt8 := dkwJ16_rangeCheck_3 ++ []
def dkwJ16_rangeCheck_2 : List UInt8 := [27, 156, 0, 12, 187, 0, 68, 89, 27, 183, 0, 70, 191, 28, 26, 164, 0, 12, 187, 0, 68, 89, 28]
abbrev dktJ16_rangeCheck_2 : List UInt8 := dkwJ16_rangeCheck_2 ++ dktJ16_rangeCheck_3
def dkwJ16_rangeCheck_1 : List UInt8 := [182, 0, 54, 18, 57, 182, 0, 50, 28, 182, 0, 54, 18, 59, 182, 0, 50, 182, 0, 61, 183, 0, 65, 191]
abbrev dktJ16_rangeCheck_1 : List UInt8 := dkwJ16_rangeCheck_1 ++ dktJ16_rangeCheck_2
def dkwJ16_rangeCheck_0 : List UInt8 := [27, 28, 164, 0, 44, 187, 0, 43, 89, 187, 0, 45, 89, 183, 0, 47, 18, 48, 182, 0, 50, 27]
abbrev dktJ16_rangeCheck_0 : List UInt8 := dkwJ16_rangeCheck_0 ++ dktJ16_rangeCheck_1
theorem dksJ16_rangeCheck_0 : cJ16_rangeCheck.data.toList.drop 0 = dktJ16_rangeCheck_0 := by decide +kernel
theorem dksJ16_rangeCheck_1 : cJ16_rangeCheck.data.toList.drop 22 = dktJ16_rangeCheck_1 := dk_seg dksJ16_rangeCheck_0 22 rfl rfl
theorem dksJ16_rangeCheck_2 : cJ16_rangeCheck.data.toList.drop 46 = dktJ16_rangeCheck_2 := dk_seg dksJ16_rangeCheck_1 24 rfl rfl
theorem dksJ16_rangeCheck_3 : cJ16_rangeCheck.data.toList.drop 69 = dktJ16_rangeCheck_3 := dk_seg dksJ16_rangeCheck_2 23 rfl rfl
theorem dJ16_rangeCheck_0 : decode cJ16_rangeCheck 0 = .ok (.iload_n 1, 1) := dk_27 (dk_at dksJ16_rangeCheck_0 0 rfl rfl)
theorem dJ16_rangeCheck_1 : decode cJ16_rangeCheck 1 = .ok (.iload_n 2, 1) := dk_28 (dk_at dksJ16_rangeCheck_0 1 rfl rfl)
theorem dJ16_rangeCheck_2 : decode cJ16_rangeCheck 2 = .ok (.if_icmp .le 44, 3) := dk_164 0 44 (dk_at dksJ16_rangeCheck_0 2 rfl rfl)
theorem dJ16_rangeCheck_5 : decode cJ16_rangeCheck 5 = .ok (.new 43, 3) := dk_187 0 43 (dk_at dksJ16_rangeCheck_0 5 rfl rfl)
theorem dJ16_rangeCheck_8 : decode cJ16_rangeCheck 8 = .ok (.dup, 1) := dk_89 (dk_at dksJ16_rangeCheck_0 8 rfl rfl)
theorem dJ16_rangeCheck_9 : decode cJ16_rangeCheck 9 = .ok (.new 45, 3) := dk_187 0 45 (dk_at dksJ16_rangeCheck_0 9 rfl rfl)
theorem dJ16_rangeCheck_12 : decode cJ16_rangeCheck 12 = .ok (.dup, 1) := dk_89 (dk_at dksJ16_rangeCheck_0 12 rfl rfl)
theorem dJ16_rangeCheck_13 : decode cJ16_rangeCheck 13 = .ok (.invokespecial 47, 3) := dk_183 0 47 (dk_at dksJ16_rangeCheck_0 13 rfl rfl)
theorem dJ16_rangeCheck_16 : decode cJ16_rangeCheck 16 = .ok (.ldc 48, 2) := dk_18 48 (dk_at dksJ16_rangeCheck_0 16 rfl rfl)
theorem dJ16_rangeCheck_18 : decode cJ16_rangeCheck 18 = .ok (.invokevirtual 50, 3) := dk_182 0 50 (dk_at dksJ16_rangeCheck_0 18 rfl rfl)
theorem dJ16_rangeCheck_21 : decode cJ16_rangeCheck 21 = .ok (.iload_n 1, 1) := dk_27 (dk_at dksJ16_rangeCheck_0 21 rfl rfl)
theorem dJ16_rangeCheck_22 : decode cJ16_rangeCheck 22 = .ok (.invokevirtual 54, 3) := dk_182 0 54 (dk_at dksJ16_rangeCheck_1 0 rfl rfl)
theorem dJ16_rangeCheck_25 : decode cJ16_rangeCheck 25 = .ok (.ldc 57, 2) := dk_18 57 (dk_at dksJ16_rangeCheck_1 3 rfl rfl)
theorem dJ16_rangeCheck_27 : decode cJ16_rangeCheck 27 = .ok (.invokevirtual 50, 3) := dk_182 0 50 (dk_at dksJ16_rangeCheck_1 5 rfl rfl)
theorem dJ16_rangeCheck_30 : decode cJ16_rangeCheck 30 = .ok (.iload_n 2, 1) := dk_28 (dk_at dksJ16_rangeCheck_1 8 rfl rfl)
theorem dJ16_rangeCheck_31 : decode cJ16_rangeCheck 31 = .ok (.invokevirtual 54, 3) := dk_182 0 54 (dk_at dksJ16_rangeCheck_1 9 rfl rfl)
theorem dJ16_rangeCheck_34 : decode cJ16_rangeCheck 34 = .ok (.ldc 59, 2) := dk_18 59 (dk_at dksJ16_rangeCheck_1 12 rfl rfl)
theorem dJ16_rangeCheck_36 : decode cJ16_rangeCheck 36 = .ok (.invokevirtual 50, 3) := dk_182 0 50 (dk_at dksJ16_rangeCheck_1 14 rfl rfl)
theorem dJ16_rangeCheck_39 : decode cJ16_rangeCheck 39 = .ok (.invokevirtual 61, 3) := dk_182 0 61 (dk_at dksJ16_rangeCheck_1 17 rfl rfl)
theorem dJ16_rangeCheck_42 : decode cJ16_rangeCheck 42 = .ok (.invokespecial 65, 3) := dk_183 0 65 (dk_at dksJ16_rangeCheck_1 20 rfl rfl)
theorem dJ16_rangeCheck_45 : decode cJ16_rangeCheck 45 = .ok (.athrow, 1) := dk_191 (dk_at dksJ16_rangeCheck_1 23 rfl rfl)
theorem dJ16_rangeCheck_46 : decode cJ16_rangeCheck 46 = .ok (.iload_n 1, 1) := dk_27 (dk_at dksJ16_rangeCheck_2 0 rfl rfl)
theorem dJ16_rangeCheck_47 : decode cJ16_rangeCheck 47 = .ok (.ifCond .ge 12, 3) := dk_156 0 12 (dk_at dksJ16_rangeCheck_2 1 rfl rfl)
theorem dJ16_rangeCheck_50 : decode cJ16_rangeCheck 50 = .ok (.new 68, 3) := dk_187 0 68 (dk_at dksJ16_rangeCheck_2 4 rfl rfl)
theorem dJ16_rangeCheck_53 : decode cJ16_rangeCheck 53 = .ok (.dup, 1) := dk_89 (dk_at dksJ16_rangeCheck_2 7 rfl rfl)
theorem dJ16_rangeCheck_54 : decode cJ16_rangeCheck 54 = .ok (.iload_n 1, 1) := dk_27 (dk_at dksJ16_rangeCheck_2 8 rfl rfl)
theorem dJ16_rangeCheck_55 : decode cJ16_rangeCheck 55 = .ok (.invokespecial 70, 3) := dk_183 0 70 (dk_at dksJ16_rangeCheck_2 9 rfl rfl)
theorem dJ16_rangeCheck_58 : decode cJ16_rangeCheck 58 = .ok (.athrow, 1) := dk_191 (dk_at dksJ16_rangeCheck_2 12 rfl rfl)
theorem dJ16_rangeCheck_59 : decode cJ16_rangeCheck 59 = .ok (.iload_n 2, 1) := dk_28 (dk_at dksJ16_rangeCheck_2 13 rfl rfl)
theorem dJ16_rangeCheck_60 : decode cJ16_rangeCheck 60 = .ok (.iload_n 0, 1) := dk_26 (dk_at dksJ16_rangeCheck_2 14 rfl rfl)
theorem dJ16_rangeCheck_61 : decode cJ16_rangeCheck 61 = .ok (.if_icmp .le 12, 3) := dk_164 0 12 (dk_at dksJ16_rangeCheck_2 15 rfl rfl)
theorem dJ16_rangeCheck_64 : decode cJ16_rangeCheck 64 = .ok (.new 68, 3) := dk_187 0 68 (dk_at dksJ16_rangeCheck_2 18 rfl rfl)
theorem dJ16_rangeCheck_67 : decode cJ16_rangeCheck 67 = .ok (.dup, 1) := dk_89 (dk_at dksJ16_rangeCheck_2 21 rfl rfl)
theorem dJ16_rangeCheck_68 : decode cJ16_rangeCheck 68 = .ok (.iload_n 2, 1) := dk_28 (dk_at dksJ16_rangeCheck_2 22 rfl rfl)
theorem dJ16_rangeCheck_69 : decode cJ16_rangeCheck 69 = .ok (.invokespecial 70, 3) := dk_183 0 70 (dk_at dksJ16_rangeCheck_3 0 rfl rfl)
theorem dJ16_rangeCheck_72 : decode cJ16_rangeCheck 72 = .ok (.athrow, 1) := dk_191 (dk_at dksJ16_rangeCheck_3 3 rfl rfl)
theorem dJ16_rangeCheck_73 : decode cJ16_rangeCheck 73 = .ok (.return_, 1) := dk_177 (dk_at dksJ16_rangeCheck_3 4 rfl rfl)
theorem dJ17_init_0 : decode cJ17_init 0 = .ok (.aload_n 0, 1) := by decide +kernel
theorem dJ17_init_1 : decode cJ17_init 1 = .ok (.invokespecial 1, 3) := by decide +kernel
theorem dJ17_init_4 : decode cJ17_init 4 = .ok (.return_, 1) := by decide +kernel
theorem dJ18_init_0 : decode cJ18_init 0 = .ok (.aload_n 0, 1) := by decide +kernel
theorem dJ18_init_1 : decode cJ18_init 1 = .ok (.invokespecial 1, 3) := by decide +kernel
theorem dJ18_init_4 : decode cJ18_init 4 = .ok (.return_, 1) := by decide +kernel
def dkwJ18_init_2_0 : List UInt8 := [42, 43, 183, 0, 7, 177]
abbrev dktJ18_init_2_0 : List UInt8 := dkwJ18_init_2_0 ++ []
theorem dksJ18_init_2_0 : cJ18_init_2.data.toList.drop 0 = dktJ18_init_2_0 := by decide +kernel
theorem dJ18_init_2_0 : decode cJ18_init_2 0 = .ok (.aload_n 0, 1) := dk_42 (dk_at dksJ18_init_2_0 0 rfl rfl)
theorem dJ18_init_2_1 : decode cJ18_init_2 1 = .ok (.aload_n 1, 1) := dk_43 (dk_at dksJ18_init_2_0 1 rfl rfl)
theorem dJ18_init_2_2 : decode cJ18_init_2 2 = .ok (.invokespecial 7, 3) := dk_183 0 7 (dk_at dksJ18_init_2_0 2 rfl rfl)
theorem dJ18_init_2_5 : decode cJ18_init_2 5 = .ok (.return_, 1) := dk_177 (dk_at dksJ18_init_2_0 5 rfl rfl)
def dkwJ19_init_0 : List UInt8 := [42, 43, 183, 0, 7, 177]
abbrev dktJ19_init_0 : List UInt8 := dkwJ19_init_0 ++ []
theorem dksJ19_init_0 : cJ19_init.data.toList.drop 0 = dktJ19_init_0 := by decide +kernel
theorem dJ19_init_0 : decode cJ19_init 0 = .ok (.aload_n 0, 1) := dk_42 (dk_at dksJ19_init_0 0 rfl rfl)
theorem dJ19_init_1 : decode cJ19_init 1 = .ok (.aload_n 1, 1) := dk_43 (dk_at dksJ19_init_0 1 rfl rfl)
theorem dJ19_init_2 : decode cJ19_init 2 = .ok (.invokespecial 7, 3) := dk_183 0 7 (dk_at dksJ19_init_0 2 rfl rfl)
theorem dJ19_init_5 : decode cJ19_init 5 = .ok (.return_, 1) := dk_177 (dk_at dksJ19_init_0 5 rfl rfl)
theorem dJ19_init_2_0 : decode cJ19_init_2 0 = .ok (.aload_n 0, 1) := by decide +kernel
theorem dJ19_init_2_1 : decode cJ19_init_2 1 = .ok (.invokespecial 1, 3) := by decide +kernel
theorem dJ19_init_2_4 : decode cJ19_init_2 4 = .ok (.return_, 1) := by decide +kernel
def dkwJ2_init_0 : List UInt8 := [42, 183, 0, 1, 42, 178, 0, 39, 181, 0, 9, 177]
abbrev dktJ2_init_0 : List UInt8 := dkwJ2_init_0 ++ []
theorem dksJ2_init_0 : cJ2_init.data.toList.drop 0 = dktJ2_init_0 := by decide +kernel
theorem dJ2_init_0 : decode cJ2_init 0 = .ok (.aload_n 0, 1) := dk_42 (dk_at dksJ2_init_0 0 rfl rfl)
theorem dJ2_init_1 : decode cJ2_init 1 = .ok (.invokespecial 1, 3) := dk_183 0 1 (dk_at dksJ2_init_0 1 rfl rfl)
theorem dJ2_init_4 : decode cJ2_init 4 = .ok (.aload_n 0, 1) := dk_42 (dk_at dksJ2_init_0 4 rfl rfl)
theorem dJ2_init_5 : decode cJ2_init 5 = .ok (.getstatic 39, 3) := dk_178 0 39 (dk_at dksJ2_init_0 5 rfl rfl)
theorem dJ2_init_8 : decode cJ2_init 8 = .ok (.putfield 9, 3) := dk_181 0 9 (dk_at dksJ2_init_0 8 rfl rfl)
theorem dJ2_init_11 : decode cJ2_init 11 = .ok (.return_, 1) := dk_177 (dk_at dksJ2_init_0 11 rfl rfl)
def dkwJ2_iterator_0 : List UInt8 := [187, 1, 11, 89, 42, 183, 1, 13, 176]
abbrev dktJ2_iterator_0 : List UInt8 := dkwJ2_iterator_0 ++ []
theorem dksJ2_iterator_0 : cJ2_iterator.data.toList.drop 0 = dktJ2_iterator_0 := by decide +kernel
theorem dJ2_iterator_0 : decode cJ2_iterator 0 = .ok (.new 267, 3) := dk_187 1 11 (dk_at dksJ2_iterator_0 0 rfl rfl)
theorem dJ2_iterator_3 : decode cJ2_iterator 3 = .ok (.dup, 1) := dk_89 (dk_at dksJ2_iterator_0 3 rfl rfl)
theorem dJ2_iterator_4 : decode cJ2_iterator 4 = .ok (.aload_n 0, 1) := dk_42 (dk_at dksJ2_iterator_0 4 rfl rfl)
theorem dJ2_iterator_5 : decode cJ2_iterator 5 = .ok (.invokespecial 269, 3) := dk_183 1 13 (dk_at dksJ2_iterator_0 5 rfl rfl)
theorem dJ2_iterator_8 : decode cJ2_iterator 8 = .ok (.areturn, 1) := dk_176 (dk_at dksJ2_iterator_0 8 rfl rfl)
theorem dJ2_size_0 : decode cJ2_size 0 = .ok (.aload_n 0, 1) := by decide +kernel
theorem dJ2_size_1 : decode cJ2_size 1 = .ok (.getfield 48, 3) := by decide +kernel
theorem dJ2_size_4 : decode cJ2_size 4 = .ok (.ireturn, 1) := by decide +kernel
def dkwJ2_get_0 : List UInt8 := [27, 42, 180, 0, 48, 184, 0, 118, 87, 42, 27, 182, 0, 123, 176]
abbrev dktJ2_get_0 : List UInt8 := dkwJ2_get_0 ++ []
theorem dksJ2_get_0 : cJ2_get.data.toList.drop 0 = dktJ2_get_0 := by decide +kernel
theorem dJ2_get_0 : decode cJ2_get 0 = .ok (.iload_n 1, 1) := dk_27 (dk_at dksJ2_get_0 0 rfl rfl)
theorem dJ2_get_1 : decode cJ2_get 1 = .ok (.aload_n 0, 1) := dk_42 (dk_at dksJ2_get_0 1 rfl rfl)
theorem dJ2_get_2 : decode cJ2_get 2 = .ok (.getfield 48, 3) := dk_180 0 48 (dk_at dksJ2_get_0 2 rfl rfl)
theorem dJ2_get_5 : decode cJ2_get 5 = .ok (.invokestatic 118, 3) := dk_184 0 118 (dk_at dksJ2_get_0 5 rfl rfl)
theorem dJ2_get_8 : decode cJ2_get 8 = .ok (.pop, 1) := dk_87 (dk_at dksJ2_get_0 8 rfl rfl)
theorem dJ2_get_9 : decode cJ2_get 9 = .ok (.aload_n 0, 1) := dk_42 (dk_at dksJ2_get_0 9 rfl rfl)
theorem dJ2_get_10 : decode cJ2_get 10 = .ok (.iload_n 1, 1) := dk_27 (dk_at dksJ2_get_0 10 rfl rfl)
theorem dJ2_get_11 : decode cJ2_get 11 = .ok (.invokevirtual 123, 3) := dk_182 0 123 (dk_at dksJ2_get_0 11 rfl rfl)
theorem dJ2_get_14 : decode cJ2_get 14 = .ok (.areturn, 1) := dk_176 (dk_at dksJ2_get_0 14 rfl rfl)
def dkwJ2_elementData_0 : List UInt8 := [42, 180, 0, 9, 27, 50, 176]
abbrev dktJ2_elementData_0 : List UInt8 := dkwJ2_elementData_0 ++ []
theorem dksJ2_elementData_0 : cJ2_elementData.data.toList.drop 0 = dktJ2_elementData_0 := by decide +kernel
theorem dJ2_elementData_0 : decode cJ2_elementData 0 = .ok (.aload_n 0, 1) := dk_42 (dk_at dksJ2_elementData_0 0 rfl rfl)
theorem dJ2_elementData_1 : decode cJ2_elementData 1 = .ok (.getfield 9, 3) := dk_180 0 9 (dk_at dksJ2_elementData_0 1 rfl rfl)
theorem dJ2_elementData_4 : decode cJ2_elementData 4 = .ok (.iload_n 1, 1) := dk_27 (dk_at dksJ2_elementData_0 4 rfl rfl)
theorem dJ2_elementData_5 : decode cJ2_elementData 5 = .ok (.aaload, 1) := dk_50 (dk_at dksJ2_elementData_0 5 rfl rfl)
theorem dJ2_elementData_6 : decode cJ2_elementData 6 = .ok (.areturn, 1) := dk_176 (dk_at dksJ2_elementData_0 6 rfl rfl)
def dkwJ2_add_1 : List UInt8 := [172]
abbrev dktJ2_add_1 : List UInt8 := dkwJ2_add_1 ++ []
def dkwJ2_add_0 : List UInt8 := [42, 89, 180, 0, 63, 4, 96, 181, 0, 63, 42, 43, 42, 180, 0, 9, 42, 180, 0, 48, 182, 0, 131, 4]
abbrev dktJ2_add_0 : List UInt8 := dkwJ2_add_0 ++ dktJ2_add_1
theorem dksJ2_add_0 : cJ2_add.data.toList.drop 0 = dktJ2_add_0 := by decide +kernel
theorem dksJ2_add_1 : cJ2_add.data.toList.drop 24 = dktJ2_add_1 := dk_seg dksJ2_add_0 24 rfl rfl
theorem dJ2_add_0 : decode cJ2_add 0 = .ok (.aload_n 0, 1) := dk_42 (dk_at dksJ2_add_0 0 rfl rfl)
theorem dJ2_add_1 : decode cJ2_add 1 = .ok (.dup, 1) := dk_89 (dk_at dksJ2_add_0 1 rfl rfl)
theorem dJ2_add_2 : decode cJ2_add 2 = .ok (.getfield 63, 3) := dk_180 0 63 (dk_at dksJ2_add_0 2 rfl rfl)
theorem dJ2_add_5 : decode cJ2_add 5 = .ok (.iconst 1, 1) := dk_4 (dk_at dksJ2_add_0 5 rfl rfl)
theorem dJ2_add_6 : decode cJ2_add 6 = .ok (.iadd, 1) := dk_96 (dk_at dksJ2_add_0 6 rfl rfl)
theorem dJ2_add_7 : decode cJ2_add 7 = .ok (.putfield 63, 3) := dk_181 0 63 (dk_at dksJ2_add_0 7 rfl rfl)
theorem dJ2_add_10 : decode cJ2_add 10 = .ok (.aload_n 0, 1) := dk_42 (dk_at dksJ2_add_0 10 rfl rfl)
theorem dJ2_add_11 : decode cJ2_add 11 = .ok (.aload_n 1, 1) := dk_43 (dk_at dksJ2_add_0 11 rfl rfl)
theorem dJ2_add_12 : decode cJ2_add 12 = .ok (.aload_n 0, 1) := dk_42 (dk_at dksJ2_add_0 12 rfl rfl)
theorem dJ2_add_13 : decode cJ2_add 13 = .ok (.getfield 9, 3) := dk_180 0 9 (dk_at dksJ2_add_0 13 rfl rfl)
theorem dJ2_add_16 : decode cJ2_add 16 = .ok (.aload_n 0, 1) := dk_42 (dk_at dksJ2_add_0 16 rfl rfl)
theorem dJ2_add_17 : decode cJ2_add 17 = .ok (.getfield 48, 3) := dk_180 0 48 (dk_at dksJ2_add_0 17 rfl rfl)
theorem dJ2_add_20 : decode cJ2_add 20 = .ok (.invokevirtual 131, 3) := dk_182 0 131 (dk_at dksJ2_add_0 20 rfl rfl)
theorem dJ2_add_23 : decode cJ2_add 23 = .ok (.iconst 1, 1) := dk_4 (dk_at dksJ2_add_0 23 rfl rfl)
theorem dJ2_add_24 : decode cJ2_add 24 = .ok (.ireturn, 1) := dk_172 (dk_at dksJ2_add_1 0 rfl rfl)
def dkwJ2_add_2_0 : List UInt8 := [29, 44, 190, 160, 0, 8, 42, 182, 0, 129, 77, 44, 29, 43, 83, 42, 29, 4, 96, 181, 0, 48, 177]
abbrev dktJ2_add_2_0 : List UInt8 := dkwJ2_add_2_0 ++ []
theorem dksJ2_add_2_0 : cJ2_add_2.data.toList.drop 0 = dktJ2_add_2_0 := by decide +kernel
theorem dJ2_add_2_0 : decode cJ2_add_2 0 = .ok (.iload_n 3, 1) := dk_29 (dk_at dksJ2_add_2_0 0 rfl rfl)
theorem dJ2_add_2_1 : decode cJ2_add_2 1 = .ok (.aload_n 2, 1) := dk_44 (dk_at dksJ2_add_2_0 1 rfl rfl)
theorem dJ2_add_2_2 : decode cJ2_add_2 2 = .ok (.arraylength, 1) := dk_190 (dk_at dksJ2_add_2_0 2 rfl rfl)
theorem dJ2_add_2_3 : decode cJ2_add_2 3 = .ok (.if_icmp .ne 8, 3) := dk_160 0 8 (dk_at dksJ2_add_2_0 3 rfl rfl)
theorem dJ2_add_2_6 : decode cJ2_add_2 6 = .ok (.aload_n 0, 1) := dk_42 (dk_at dksJ2_add_2_0 6 rfl rfl)
theorem dJ2_add_2_7 : decode cJ2_add_2 7 = .ok (.invokevirtual 129, 3) := dk_182 0 129 (dk_at dksJ2_add_2_0 7 rfl rfl)
theorem dJ2_add_2_10 : decode cJ2_add_2 10 = .ok (.astore_n 2, 1) := dk_77 (dk_at dksJ2_add_2_0 10 rfl rfl)
theorem dJ2_add_2_11 : decode cJ2_add_2 11 = .ok (.aload_n 2, 1) := dk_44 (dk_at dksJ2_add_2_0 11 rfl rfl)
theorem dJ2_add_2_12 : decode cJ2_add_2 12 = .ok (.iload_n 3, 1) := dk_29 (dk_at dksJ2_add_2_0 12 rfl rfl)
theorem dJ2_add_2_13 : decode cJ2_add_2 13 = .ok (.aload_n 1, 1) := dk_43 (dk_at dksJ2_add_2_0 13 rfl rfl)
theorem dJ2_add_2_14 : decode cJ2_add_2 14 = .ok (.aastore, 1) := dk_83 (dk_at dksJ2_add_2_0 14 rfl rfl)
theorem dJ2_add_2_15 : decode cJ2_add_2 15 = .ok (.aload_n 0, 1) := dk_42 (dk_at dksJ2_add_2_0 15 rfl rfl)
theorem dJ2_add_2_16 : decode cJ2_add_2 16 = .ok (.iload_n 3, 1) := dk_29 (dk_at dksJ2_add_2_0 16 rfl rfl)
theorem dJ2_add_2_17 : decode cJ2_add_2 17 = .ok (.iconst 1, 1) := dk_4 (dk_at dksJ2_add_2_0 17 rfl rfl)
theorem dJ2_add_2_18 : decode cJ2_add_2 18 = .ok (.iadd, 1) := dk_96 (dk_at dksJ2_add_2_0 18 rfl rfl)
theorem dJ2_add_2_19 : decode cJ2_add_2 19 = .ok (.putfield 48, 3) := dk_181 0 48 (dk_at dksJ2_add_2_0 19 rfl rfl)
theorem dJ2_add_2_22 : decode cJ2_add_2 22 = .ok (.return_, 1) := dk_177 (dk_at dksJ2_add_2_0 22 rfl rfl)
def dkwJ2_grow_0 : List UInt8 := [42, 42, 180, 0, 48, 4, 96, 182, 0, 69, 176]
abbrev dktJ2_grow_0 : List UInt8 := dkwJ2_grow_0 ++ []
theorem dksJ2_grow_0 : cJ2_grow.data.toList.drop 0 = dktJ2_grow_0 := by decide +kernel
theorem dJ2_grow_0 : decode cJ2_grow 0 = .ok (.aload_n 0, 1) := dk_42 (dk_at dksJ2_grow_0 0 rfl rfl)
theorem dJ2_grow_1 : decode cJ2_grow 1 = .ok (.aload_n 0, 1) := dk_42 (dk_at dksJ2_grow_0 1 rfl rfl)
theorem dJ2_grow_2 : decode cJ2_grow 2 = .ok (.getfield 48, 3) := dk_180 0 48 (dk_at dksJ2_grow_0 2 rfl rfl)
theorem dJ2_grow_5 : decode cJ2_grow 5 = .ok (.iconst 1, 1) := dk_4 (dk_at dksJ2_grow_0 5 rfl rfl)
theorem dJ2_grow_6 : decode cJ2_grow 6 = .ok (.iadd, 1) := dk_96 (dk_at dksJ2_grow_0 6 rfl rfl)
theorem dJ2_grow_7 : decode cJ2_grow 7 = .ok (.invokevirtual 69, 3) := dk_182 0 69 (dk_at dksJ2_grow_0 7 rfl rfl)
theorem dJ2_grow_10 : decode cJ2_grow 10 = .ok (.areturn, 1) := dk_176 (dk_at dksJ2_grow_0 10 rfl rfl)
def dkwJ2_grow_2_2 : List UInt8 := [27, 184, 0, 79, 189, 0, 7, 90, 181, 0, 9, 176]
abbrev dktJ2_grow_2_2 : List UInt8 := dkwJ2_grow_2_2 ++ []
def dkwJ2_grow_2_1 : List UInt8 := [28, 4, 122, 184, 0, 73, 62, 42, 42, 180, 0, 9, 29, 184, 0, 66, 90, 181, 0, 9, 176, 42, 16, 10]
abbrev dktJ2_grow_2_1 : List UInt8 := dkwJ2_grow_2_1 ++ dktJ2_grow_2_2
def dkwJ2_grow_2_0 : List UInt8 := [42, 180, 0, 9, 190, 61, 28, 157, 0, 13, 42, 180, 0, 9, 178, 0, 39, 165, 0, 28, 28, 27, 28, 100]
abbrev dktJ2_grow_2_0 : List UInt8 := dkwJ2_grow_2_0 ++ dktJ2_grow_2_1
theorem dksJ2_grow_2_0 : cJ2_grow_2.data.toList.drop 0 = dktJ2_grow_2_0 := by decide +kernel
theorem dksJ2_grow_2_1 : cJ2_grow_2.data.toList.drop 24 = dktJ2_grow_2_1 := dk_seg dksJ2_grow_2_0 24 rfl rfl
theorem dksJ2_grow_2_2 : cJ2_grow_2.data.toList.drop 48 = dktJ2_grow_2_2 := dk_seg dksJ2_grow_2_1 24 rfl rfl
theorem dJ2_grow_2_0 : decode cJ2_grow_2 0 = .ok (.aload_n 0, 1) := dk_42 (dk_at dksJ2_grow_2_0 0 rfl rfl)
theorem dJ2_grow_2_1 : decode cJ2_grow_2 1 = .ok (.getfield 9, 3) := dk_180 0 9 (dk_at dksJ2_grow_2_0 1 rfl rfl)
theorem dJ2_grow_2_4 : decode cJ2_grow_2 4 = .ok (.arraylength, 1) := dk_190 (dk_at dksJ2_grow_2_0 4 rfl rfl)
theorem dJ2_grow_2_5 : decode cJ2_grow_2 5 = .ok (.istore_n 2, 1) := dk_61 (dk_at dksJ2_grow_2_0 5 rfl rfl)
theorem dJ2_grow_2_6 : decode cJ2_grow_2 6 = .ok (.iload_n 2, 1) := dk_28 (dk_at dksJ2_grow_2_0 6 rfl rfl)
theorem dJ2_grow_2_7 : decode cJ2_grow_2 7 = .ok (.ifCond .gt 13, 3) := dk_157 0 13 (dk_at dksJ2_grow_2_0 7 rfl rfl)
theorem dJ2_grow_2_10 : decode cJ2_grow_2 10 = .ok (.aload_n 0, 1) := dk_42 (dk_at dksJ2_grow_2_0 10 rfl rfl)
theorem dJ2_grow_2_11 : decode cJ2_grow_2 11 = .ok (.getfield 9, 3) := dk_180 0 9 (dk_at dksJ2_grow_2_0 11 rfl rfl)
theorem dJ2_grow_2_14 : decode cJ2_grow_2 14 = .ok (.getstatic 39, 3) := dk_178 0 39 (dk_at dksJ2_grow_2_0 14 rfl rfl)
theorem dJ2_grow_2_17 : decode cJ2_grow_2 17 = .ok (.if_acmp .eq 28, 3) := dk_165 0 28 (dk_at dksJ2_grow_2_0 17 rfl rfl)
theorem dJ2_grow_2_20 : decode cJ2_grow_2 20 = .ok (.iload_n 2, 1) := dk_28 (dk_at dksJ2_grow_2_0 20 rfl rfl)
theorem dJ2_grow_2_21 : decode cJ2_grow_2 21 = .ok (.iload_n 1, 1) := dk_27 (dk_at dksJ2_grow_2_0 21 rfl rfl)
theorem dJ2_grow_2_22 : decode cJ2_grow_2 22 = .ok (.iload_n 2, 1) := dk_28 (dk_at dksJ2_grow_2_0 22 rfl rfl)
theorem dJ2_grow_2_23 : decode cJ2_grow_2 23 = .ok (.isub, 1) := dk_100 (dk_at dksJ2_grow_2_0 23 rfl rfl)
theorem dJ2_grow_2_24 : decode cJ2_grow_2 24 = .ok (.iload_n 2, 1) := dk_28 (dk_at dksJ2_grow_2_1 0 rfl rfl)
theorem dJ2_grow_2_25 : decode cJ2_grow_2 25 = .ok (.iconst 1, 1) := dk_4 (dk_at dksJ2_grow_2_1 1 rfl rfl)
theorem dJ2_grow_2_26 : decode cJ2_grow_2 26 = .ok (.ishr, 1) := dk_122 (dk_at dksJ2_grow_2_1 2 rfl rfl)
theorem dJ2_grow_2_27 : decode cJ2_grow_2 27 = .ok (.invokestatic 73, 3) := dk_184 0 73 (dk_at dksJ2_grow_2_1 3 rfl rfl)
theorem dJ2_grow_2_30 : decode cJ2_grow_2 30 = .ok (.istore_n 3, 1) := dk_62 (dk_at dksJ2_grow_2_1 6 rfl rfl)
theorem dJ2_grow_2_31 : decode cJ2_grow_2 31 = .ok (.aload_n 0, 1) := dk_42 (dk_at dksJ2_grow_2_1 7 rfl rfl)
theorem dJ2_grow_2_32 : decode cJ2_grow_2 32 = .ok (.aload_n 0, 1) := dk_42 (dk_at dksJ2_grow_2_1 8 rfl rfl)
theorem dJ2_grow_2_33 : decode cJ2_grow_2 33 = .ok (.getfield 9, 3) := dk_180 0 9 (dk_at dksJ2_grow_2_1 9 rfl rfl)
theorem dJ2_grow_2_36 : decode cJ2_grow_2 36 = .ok (.iload_n 3, 1) := dk_29 (dk_at dksJ2_grow_2_1 12 rfl rfl)
theorem dJ2_grow_2_37 : decode cJ2_grow_2 37 = .ok (.invokestatic 66, 3) := dk_184 0 66 (dk_at dksJ2_grow_2_1 13 rfl rfl)
theorem dJ2_grow_2_40 : decode cJ2_grow_2 40 = .ok (.dup_x1, 1) := dk_90 (dk_at dksJ2_grow_2_1 16 rfl rfl)
theorem dJ2_grow_2_41 : decode cJ2_grow_2 41 = .ok (.putfield 9, 3) := dk_181 0 9 (dk_at dksJ2_grow_2_1 17 rfl rfl)
theorem dJ2_grow_2_44 : decode cJ2_grow_2 44 = .ok (.areturn, 1) := dk_176 (dk_at dksJ2_grow_2_1 20 rfl rfl)
theorem dJ2_grow_2_45 : decode cJ2_grow_2 45 = .ok (.aload_n 0, 1) := dk_42 (dk_at dksJ2_grow_2_1 21 rfl rfl)
theorem dJ2_grow_2_46 : decode cJ2_grow_2 46 = .ok (.bipush 10, 2) := dk_16 10 (dk_at dksJ2_grow_2_1 22 rfl rfl)
theorem dJ2_grow_2_48 : decode cJ2_grow_2 48 = .ok (.iload_n 1, 1) := dk_27 (dk_at dksJ2_grow_2_2 0 rfl rfl)
theorem dJ2_grow_2_49 : decode cJ2_grow_2 49 = .ok (.invokestatic 79, 3) := dk_184 0 79 (dk_at dksJ2_grow_2_2 1 rfl rfl)
theorem dJ2_grow_2_52 : decode cJ2_grow_2 52 = .ok (.anewarray 7, 3) := dk_189 0 7 (dk_at dksJ2_grow_2_2 4 rfl rfl)
theorem dJ2_grow_2_55 : decode cJ2_grow_2 55 = .ok (.dup_x1, 1) := dk_90 (dk_at dksJ2_grow_2_2 7 rfl rfl)
theorem dJ2_grow_2_56 : decode cJ2_grow_2 56 = .ok (.putfield 9, 3) := dk_181 0 9 (dk_at dksJ2_grow_2_2 8 rfl rfl)
theorem dJ2_grow_2_59 : decode cJ2_grow_2 59 = .ok (.areturn, 1) := dk_176 (dk_at dksJ2_grow_2_2 11 rfl rfl)
def dkwJ2_remove_1 : List UInt8 := [45, 176]
abbrev dktJ2_remove_1 : List UInt8 := dkwJ2_remove_1 ++ []
def dkwJ2_remove_0 : List UInt8 := [27, 42, 180, 0, 48, 184, 0, 118, 87, 42, 180, 0, 9, 77, 44, 27, 50, 78, 42, 44, 27, 182, 0, 144]
abbrev dktJ2_remove_0 : List UInt8 := dkwJ2_remove_0 ++ dktJ2_remove_1
theorem dksJ2_remove_0 : cJ2_remove.data.toList.drop 0 = dktJ2_remove_0 := by decide +kernel
theorem dksJ2_remove_1 : cJ2_remove.data.toList.drop 24 = dktJ2_remove_1 := dk_seg dksJ2_remove_0 24 rfl rfl
theorem dJ2_remove_0 : decode cJ2_remove 0 = .ok (.iload_n 1, 1) := dk_27 (dk_at dksJ2_remove_0 0 rfl rfl)
theorem dJ2_remove_1 : decode cJ2_remove 1 = .ok (.aload_n 0, 1) := dk_42 (dk_at dksJ2_remove_0 1 rfl rfl)
theorem dJ2_remove_2 : decode cJ2_remove 2 = .ok (.getfield 48, 3) := dk_180 0 48 (dk_at dksJ2_remove_0 2 rfl rfl)
theorem dJ2_remove_5 : decode cJ2_remove 5 = .ok (.invokestatic 118, 3) := dk_184 0 118 (dk_at dksJ2_remove_0 5 rfl rfl)
theorem dJ2_remove_8 : decode cJ2_remove 8 = .ok (.pop, 1) := dk_87 (dk_at dksJ2_remove_0 8 rfl rfl)
theorem dJ2_remove_9 : decode cJ2_remove 9 = .ok (.aload_n 0, 1) := dk_42 (dk_at dksJ2_remove_0 9 rfl rfl)
theorem dJ2_remove_10 : decode cJ2_remove 10 = .ok (.getfield 9, 3) := dk_180 0 9 (dk_at dksJ2_remove_0 10 rfl rfl)
theorem dJ2_remove_13 : decode cJ2_remove 13 = .ok (.astore_n 2, 1) := dk_77 (dk_at dksJ2_remove_0 13 rfl rfl)
theorem dJ2_remove_14 : decode cJ2_remove 14 = .ok (.aload_n 2, 1) := dk_44 (dk_at dksJ2_remove_0 14 rfl rfl)
theorem dJ2_remove_15 : decode cJ2_remove 15 = .ok (.iload_n 1, 1) := dk_27 (dk_at dksJ2_remove_0 15 rfl rfl)
theorem dJ2_remove_16 : decode cJ2_remove 16 = .ok (.aaload, 1) := dk_50 (dk_at dksJ2_remove_0 16 rfl rfl)
theorem dJ2_remove_17 : decode cJ2_remove 17 = .ok (.astore_n 3, 1) := dk_78 (dk_at dksJ2_remove_0 17 rfl rfl)
theorem dJ2_remove_18 : decode cJ2_remove 18 = .ok (.aload_n 0, 1) := dk_42 (dk_at dksJ2_remove_0 18 rfl rfl)
theorem dJ2_remove_19 : decode cJ2_remove 19 = .ok (.aload_n 2, 1) := dk_44 (dk_at dksJ2_remove_0 19 rfl rfl)
theorem dJ2_remove_20 : decode cJ2_remove 20 = .ok (.iload_n 1, 1) := dk_27 (dk_at dksJ2_remove_0 20 rfl rfl)
theorem dJ2_remove_21 : decode cJ2_remove 21 = .ok (.invokevirtual 144, 3) := dk_182 0 144 (dk_at dksJ2_remove_0 21 rfl rfl)
theorem dJ2_remove_24 : decode cJ2_remove 24 = .ok (.aload_n 3, 1) := dk_45 (dk_at dksJ2_remove_1 0 rfl rfl)
theorem dJ2_remove_25 : decode cJ2_remove 25 = .ok (.areturn, 1) := dk_176 (dk_at dksJ2_remove_1 1 rfl rfl)
def dkwJ2_fastRemove_1 : List UInt8 := [4, 96, 43, 28, 29, 28, 100, 184, 0, 112, 43, 42, 29, 90, 181, 0, 48, 1, 83, 177]
abbrev dktJ2_fastRemove_1 : List UInt8 := dkwJ2_fastRemove_1 ++ []
def dkwJ2_fastRemove_0 : List UInt8 := [42, 89, 180, 0, 63, 4, 96, 181, 0, 63, 42, 180, 0, 48, 4, 100, 89, 62, 28, 164, 0, 15, 43, 28]
abbrev dktJ2_fastRemove_0 : List UInt8 := dkwJ2_fastRemove_0 ++ dktJ2_fastRemove_1
theorem dksJ2_fastRemove_0 : cJ2_fastRemove.data.toList.drop 0 = dktJ2_fastRemove_0 := by decide +kernel
theorem dksJ2_fastRemove_1 : cJ2_fastRemove.data.toList.drop 24 = dktJ2_fastRemove_1 := dk_seg dksJ2_fastRemove_0 24 rfl rfl
theorem dJ2_fastRemove_0 : decode cJ2_fastRemove 0 = .ok (.aload_n 0, 1) := dk_42 (dk_at dksJ2_fastRemove_0 0 rfl rfl)
theorem dJ2_fastRemove_1 : decode cJ2_fastRemove 1 = .ok (.dup, 1) := dk_89 (dk_at dksJ2_fastRemove_0 1 rfl rfl)
theorem dJ2_fastRemove_2 : decode cJ2_fastRemove 2 = .ok (.getfield 63, 3) := dk_180 0 63 (dk_at dksJ2_fastRemove_0 2 rfl rfl)
theorem dJ2_fastRemove_5 : decode cJ2_fastRemove 5 = .ok (.iconst 1, 1) := dk_4 (dk_at dksJ2_fastRemove_0 5 rfl rfl)
theorem dJ2_fastRemove_6 : decode cJ2_fastRemove 6 = .ok (.iadd, 1) := dk_96 (dk_at dksJ2_fastRemove_0 6 rfl rfl)
theorem dJ2_fastRemove_7 : decode cJ2_fastRemove 7 = .ok (.putfield 63, 3) := dk_181 0 63 (dk_at dksJ2_fastRemove_0 7 rfl rfl)
theorem dJ2_fastRemove_10 : decode cJ2_fastRemove 10 = .ok (.aload_n 0, 1) := dk_42 (dk_at dksJ2_fastRemove_0 10 rfl rfl)
theorem dJ2_fastRemove_11 : decode cJ2_fastRemove 11 = .ok (.getfield 48, 3) := dk_180 0 48 (dk_at dksJ2_fastRemove_0 11 rfl rfl)
theorem dJ2_fastRemove_14 : decode cJ2_fastRemove 14 = .ok (.iconst 1, 1) := dk_4 (dk_at dksJ2_fastRemove_0 14 rfl rfl)
theorem dJ2_fastRemove_15 : decode cJ2_fastRemove 15 = .ok (.isub, 1) := dk_100 (dk_at dksJ2_fastRemove_0 15 rfl rfl)
theorem dJ2_fastRemove_16 : decode cJ2_fastRemove 16 = .ok (.dup, 1) := dk_89 (dk_at dksJ2_fastRemove_0 16 rfl rfl)
theorem dJ2_fastRemove_17 : decode cJ2_fastRemove 17 = .ok (.istore_n 3, 1) := dk_62 (dk_at dksJ2_fastRemove_0 17 rfl rfl)
theorem dJ2_fastRemove_18 : decode cJ2_fastRemove 18 = .ok (.iload_n 2, 1) := dk_28 (dk_at dksJ2_fastRemove_0 18 rfl rfl)
theorem dJ2_fastRemove_19 : decode cJ2_fastRemove 19 = .ok (.if_icmp .le 15, 3) := dk_164 0 15 (dk_at dksJ2_fastRemove_0 19 rfl rfl)
theorem dJ2_fastRemove_22 : decode cJ2_fastRemove 22 = .ok (.aload_n 1, 1) := dk_43 (dk_at dksJ2_fastRemove_0 22 rfl rfl)
theorem dJ2_fastRemove_23 : decode cJ2_fastRemove 23 = .ok (.iload_n 2, 1) := dk_28 (dk_at dksJ2_fastRemove_0 23 rfl rfl)
theorem dJ2_fastRemove_24 : decode cJ2_fastRemove 24 = .ok (.iconst 1, 1) := dk_4 (dk_at dksJ2_fastRemove_1 0 rfl rfl)
theorem dJ2_fastRemove_25 : decode cJ2_fastRemove 25 = .ok (.iadd, 1) := dk_96 (dk_at dksJ2_fastRemove_1 1 rfl rfl)
theorem dJ2_fastRemove_26 : decode cJ2_fastRemove 26 = .ok (.aload_n 1, 1) := dk_43 (dk_at dksJ2_fastRemove_1 2 rfl rfl)
theorem dJ2_fastRemove_27 : decode cJ2_fastRemove 27 = .ok (.iload_n 2, 1) := dk_28 (dk_at dksJ2_fastRemove_1 3 rfl rfl)
theorem dJ2_fastRemove_28 : decode cJ2_fastRemove 28 = .ok (.iload_n 3, 1) := dk_29 (dk_at dksJ2_fastRemove_1 4 rfl rfl)
theorem dJ2_fastRemove_29 : decode cJ2_fastRemove 29 = .ok (.iload_n 2, 1) := dk_28 (dk_at dksJ2_fastRemove_1 5 rfl rfl)
theorem dJ2_fastRemove_30 : decode cJ2_fastRemove 30 = .ok (.isub, 1) := dk_100 (dk_at dksJ2_fastRemove_1 6 rfl rfl)
theorem dJ2_fastRemove_31 : decode cJ2_fastRemove 31 = .ok (.invokestatic 112, 3) := dk_184 0 112 (dk_at dksJ2_fastRemove_1 7 rfl rfl)
theorem dJ2_fastRemove_34 : decode cJ2_fastRemove 34 = .ok (.aload_n 1, 1) := dk_43 (dk_at dksJ2_fastRemove_1 10 rfl rfl)
theorem dJ2_fastRemove_35 : decode cJ2_fastRemove 35 = .ok (.aload_n 0, 1) := dk_42 (dk_at dksJ2_fastRemove_1 11 rfl rfl)
theorem dJ2_fastRemove_36 : decode cJ2_fastRemove 36 = .ok (.iload_n 3, 1) := dk_29 (dk_at dksJ2_fastRemove_1 12 rfl rfl)
theorem dJ2_fastRemove_37 : decode cJ2_fastRemove 37 = .ok (.dup_x1, 1) := dk_90 (dk_at dksJ2_fastRemove_1 13 rfl rfl)
theorem dJ2_fastRemove_38 : decode cJ2_fastRemove 38 = .ok (.putfield 48, 3) := dk_181 0 48 (dk_at dksJ2_fastRemove_1 14 rfl rfl)
theorem dJ2_fastRemove_41 : decode cJ2_fastRemove 41 = .ok (.aconst_null, 1) := dk_1 (dk_at dksJ2_fastRemove_1 17 rfl rfl)
theorem dJ2_fastRemove_42 : decode cJ2_fastRemove 42 = .ok (.aastore, 1) := dk_83 (dk_at dksJ2_fastRemove_1 18 rfl rfl)
theorem dJ2_fastRemove_43 : decode cJ2_fastRemove 43 = .ok (.return_, 1) := dk_177 (dk_at dksJ2_fastRemove_1 19 rfl rfl)
def dkwJ2_clear_1 : List UInt8 := [181, 0, 48, 62, 29, 28, 162, 0, 13, 43, 29, 1, 83, 132, 3, 1, 167, 255, 244, 177]
abbrev dktJ2_clear_1 : List UInt8 := dkwJ2_clear_1 ++ []
def dkwJ2_clear_0 : List UInt8 := [42, 89, 180, 0, 63, 4, 96, 181, 0, 63, 42, 180, 0, 9, 76, 42, 180, 0, 48, 61, 42, 3, 90]
abbrev dktJ2_clear_0 : List UInt8 := dkwJ2_clear_0 ++ dktJ2_clear_1
theorem dksJ2_clear_0 : cJ2_clear.data.toList.drop 0 = dktJ2_clear_0 := by decide +kernel
theorem dksJ2_clear_1 : cJ2_clear.data.toList.drop 23 = dktJ2_clear_1 := dk_seg dksJ2_clear_0 23 rfl rfl
theorem dJ2_clear_0 : decode cJ2_clear 0 = .ok (.aload_n 0, 1) := dk_42 (dk_at dksJ2_clear_0 0 rfl rfl)
theorem dJ2_clear_1 : decode cJ2_clear 1 = .ok (.dup, 1) := dk_89 (dk_at dksJ2_clear_0 1 rfl rfl)
theorem dJ2_clear_2 : decode cJ2_clear 2 = .ok (.getfield 63, 3) := dk_180 0 63 (dk_at dksJ2_clear_0 2 rfl rfl)
theorem dJ2_clear_5 : decode cJ2_clear 5 = .ok (.iconst 1, 1) := dk_4 (dk_at dksJ2_clear_0 5 rfl rfl)
theorem dJ2_clear_6 : decode cJ2_clear 6 = .ok (.iadd, 1) := dk_96 (dk_at dksJ2_clear_0 6 rfl rfl)
theorem dJ2_clear_7 : decode cJ2_clear 7 = .ok (.putfield 63, 3) := dk_181 0 63 (dk_at dksJ2_clear_0 7 rfl rfl)
theorem dJ2_clear_10 : decode cJ2_clear 10 = .ok (.aload_n 0, 1) := dk_42 (dk_at dksJ2_clear_0 10 rfl rfl)
theorem dJ2_clear_11 : decode cJ2_clear 11 = .ok (.getfield 9, 3) := dk_180 0 9 (dk_at dksJ2_clear_0 11 rfl rfl)
theorem dJ2_clear_14 : decode cJ2_clear 14 = .ok (.astore_n 1, 1) := dk_76 (dk_at dksJ2_clear_0 14 rfl rfl)
theorem dJ2_clear_15 : decode cJ2_clear 15 = .ok (.aload_n 0, 1) := dk_42 (dk_at dksJ2_clear_0 15 rfl rfl)
theorem dJ2_clear_16 : decode cJ2_clear 16 = .ok (.getfield 48, 3) := dk_180 0 48 (dk_at dksJ2_clear_0 16 rfl rfl)
theorem dJ2_clear_19 : decode cJ2_clear 19 = .ok (.istore_n 2, 1) := dk_61 (dk_at dksJ2_clear_0 19 rfl rfl)
theorem dJ2_clear_20 : decode cJ2_clear 20 = .ok (.aload_n 0, 1) := dk_42 (dk_at dksJ2_clear_0 20 rfl rfl)
theorem dJ2_clear_21 : decode cJ2_clear 21 = .ok (.iconst 0, 1) := dk_3 (dk_at dksJ2_clear_0 21 rfl rfl)
theorem dJ2_clear_22 : decode cJ2_clear 22 = .ok (.dup_x1, 1) := dk_90 (dk_at dksJ2_clear_0 22 rfl rfl)
theorem dJ2_clear_23 : decode cJ2_clear 23 = .ok (.putfield 48, 3) := dk_181 0 48 (dk_at dksJ2_clear_1 0 rfl rfl)
theorem dJ2_clear_26 : decode cJ2_clear 26 = .ok (.istore_n 3, 1) := dk_62 (dk_at dksJ2_clear_1 3 rfl rfl)
theorem dJ2_clear_27 : decode cJ2_clear 27 = .ok (.iload_n 3, 1) := dk_29 (dk_at dksJ2_clear_1 4 rfl rfl)
theorem dJ2_clear_28 : decode cJ2_clear 28 = .ok (.iload_n 2, 1) := dk_28 (dk_at dksJ2_clear_1 5 rfl rfl)
theorem dJ2_clear_29 : decode cJ2_clear 29 = .ok (.if_icmp .ge 13, 3) := dk_162 0 13 (dk_at dksJ2_clear_1 6 rfl rfl)
theorem dJ2_clear_32 : decode cJ2_clear 32 = .ok (.aload_n 1, 1) := dk_43 (dk_at dksJ2_clear_1 9 rfl rfl)
theorem dJ2_clear_33 : decode cJ2_clear 33 = .ok (.iload_n 3, 1) := dk_29 (dk_at dksJ2_clear_1 10 rfl rfl)
theorem dJ2_clear_34 : decode cJ2_clear 34 = .ok (.aconst_null, 1) := dk_1 (dk_at dksJ2_clear_1 11 rfl rfl)
theorem dJ2_clear_35 : decode cJ2_clear 35 = .ok (.aastore, 1) := dk_83 (dk_at dksJ2_clear_1 12 rfl rfl)
theorem dJ2_clear_36 : decode cJ2_clear 36 = .ok (.iinc 3 1, 3) := dk_132 3 1 (dk_at dksJ2_clear_1 13 rfl rfl)
theorem dJ2_clear_39 : decode cJ2_clear 39 = .ok (.goto (-12), 3) := dk_167 255 244 (dk_at dksJ2_clear_1 16 rfl rfl)
theorem dJ2_clear_42 : decode cJ2_clear 42 = .ok (.return_, 1) := dk_177 (dk_at dksJ2_clear_1 19 rfl rfl)
def dkwJ20_init_0 : List UInt8 := [42, 43, 183, 0, 7, 177]
abbrev dktJ20_init_0 : List UInt8 := dkwJ20_init_0 ++ []
theorem dksJ20_init_0 : cJ20_init.data.toList.drop 0 = dktJ20_init_0 := by decide +kernel
theorem dJ20_init_0 : decode cJ20_init 0 = .ok (.aload_n 0, 1) := dk_42 (dk_at dksJ20_init_0 0 rfl rfl)
theorem dJ20_init_1 : decode cJ20_init 1 = .ok (.aload_n 1, 1) := dk_43 (dk_at dksJ20_init_0 1 rfl rfl)
theorem dJ20_init_2 : decode cJ20_init 2 = .ok (.invokespecial 7, 3) := dk_183 0 7 (dk_at dksJ20_init_0 2 rfl rfl)
theorem dJ20_init_5 : decode cJ20_init 5 = .ok (.return_, 1) := dk_177 (dk_at dksJ20_init_0 5 rfl rfl)
def dkwJ20_init_2_0 : List UInt8 := [42, 187, 0, 10, 89, 183, 0, 12, 18, 13, 182, 0, 15, 27, 182, 0, 19, 182, 0, 22, 183, 0, 7, 177]
abbrev dktJ20_init_2_0 : List UInt8 := dkwJ20_init_2_0 ++ []
theorem dksJ20_init_2_0 : cJ20_init_2.data.toList.drop 0 = dktJ20_init_2_0 := by decide +kernel
theorem dJ20_init_2_0 : decode cJ20_init_2 0 = .ok (.aload_n 0, 1) := dk_42 (dk_at dksJ20_init_2_0 0 rfl rfl)
theorem dJ20_init_2_1 : decode cJ20_init_2 1 = .ok (.new 10, 3) := dk_187 0 10 (dk_at dksJ20_init_2_0 1 rfl rfl)
theorem dJ20_init_2_4 : decode cJ20_init_2 4 = .ok (.dup, 1) := dk_89 (dk_at dksJ20_init_2_0 4 rfl rfl)
theorem dJ20_init_2_5 : decode cJ20_init_2 5 = .ok (.invokespecial 12, 3) := dk_183 0 12 (dk_at dksJ20_init_2_0 5 rfl rfl)
theorem dJ20_init_2_8 : decode cJ20_init_2 8 = .ok (.ldc 13, 2) := dk_18 13 (dk_at dksJ20_init_2_0 8 rfl rfl)
theorem dJ20_init_2_10 : decode cJ20_init_2 10 = .ok (.invokevirtual 15, 3) := dk_182 0 15 (dk_at dksJ20_init_2_0 10 rfl rfl)
theorem dJ20_init_2_13 : decode cJ20_init_2 13 = .ok (.iload_n 1, 1) := dk_27 (dk_at dksJ20_init_2_0 13 rfl rfl)
theorem dJ20_init_2_14 : decode cJ20_init_2 14 = .ok (.invokevirtual 19, 3) := dk_182 0 19 (dk_at dksJ20_init_2_0 14 rfl rfl)
theorem dJ20_init_2_17 : decode cJ20_init_2 17 = .ok (.invokevirtual 22, 3) := dk_182 0 22 (dk_at dksJ20_init_2_0 17 rfl rfl)
theorem dJ20_init_2_20 : decode cJ20_init_2 20 = .ok (.invokespecial 7, 3) := dk_183 0 7 (dk_at dksJ20_init_2_0 20 rfl rfl)
theorem dJ20_init_2_23 : decode cJ20_init_2 23 = .ok (.return_, 1) := dk_177 (dk_at dksJ20_init_2_0 23 rfl rfl)
def dkwJ21_charAt_0 : List UInt8 := [27, 42, 190, 184, 0, 9, 42, 27, 51, 17, 0, 255, 126, 146, 172]
abbrev dktJ21_charAt_0 : List UInt8 := dkwJ21_charAt_0 ++ []
theorem dksJ21_charAt_0 : cJ21_charAt.data.toList.drop 0 = dktJ21_charAt_0 := by decide +kernel
theorem dJ21_charAt_0 : decode cJ21_charAt 0 = .ok (.iload_n 1, 1) := dk_27 (dk_at dksJ21_charAt_0 0 rfl rfl)
theorem dJ21_charAt_1 : decode cJ21_charAt 1 = .ok (.aload_n 0, 1) := dk_42 (dk_at dksJ21_charAt_0 1 rfl rfl)
theorem dJ21_charAt_2 : decode cJ21_charAt 2 = .ok (.arraylength, 1) := dk_190 (dk_at dksJ21_charAt_0 2 rfl rfl)
theorem dJ21_charAt_3 : decode cJ21_charAt 3 = .ok (.invokestatic 9, 3) := dk_184 0 9 (dk_at dksJ21_charAt_0 3 rfl rfl)
theorem dJ21_charAt_6 : decode cJ21_charAt 6 = .ok (.aload_n 0, 1) := dk_42 (dk_at dksJ21_charAt_0 6 rfl rfl)
theorem dJ21_charAt_7 : decode cJ21_charAt 7 = .ok (.iload_n 1, 1) := dk_27 (dk_at dksJ21_charAt_0 7 rfl rfl)
theorem dJ21_charAt_8 : decode cJ21_charAt 8 = .ok (.baload, 1) := dk_51 (dk_at dksJ21_charAt_0 8 rfl rfl)
theorem dJ21_charAt_9 : decode cJ21_charAt 9 = .ok (.sipush 255, 3) := dk_17 0 255 (dk_at dksJ21_charAt_0 9 rfl rfl)
theorem dJ21_charAt_12 : decode cJ21_charAt 12 = .ok (.iand, 1) := dk_126 (dk_at dksJ21_charAt_0 12 rfl rfl)
theorem dJ21_charAt_13 : decode cJ21_charAt 13 = .ok (.i2c, 1) := dk_146 (dk_at dksJ21_charAt_0 13 rfl rfl)
theorem dJ21_charAt_14 : decode cJ21_charAt 14 = .ok (.ireturn, 1) := dk_172 (dk_at dksJ21_charAt_0 14 rfl rfl)
def dkwJ21_indexOf_1 : List UInt8 := [161, 0, 5, 2, 172, 42, 27, 28, 29, 184, 0, 95, 172]
abbrev dktJ21_indexOf_1 : List UInt8 := dkwJ21_indexOf_1 ++ []
def dkwJ21_indexOf_0 : List UInt8 := [27, 184, 0, 88, 154, 0, 5, 2, 172, 28, 3, 184, 0, 92, 61, 29, 42, 190, 184, 0, 38, 62, 28, 29]
abbrev dktJ21_indexOf_0 : List UInt8 := dkwJ21_indexOf_0 ++ dktJ21_indexOf_1
theorem dksJ21_indexOf_0 : cJ21_indexOf.data.toList.drop 0 = dktJ21_indexOf_0 := by decide +kernel
theorem dksJ21_indexOf_1 : cJ21_indexOf.data.toList.drop 24 = dktJ21_indexOf_1 := dk_seg dksJ21_indexOf_0 24 rfl rfl
theorem dJ21_indexOf_0 : decode cJ21_indexOf 0 = .ok (.iload_n 1, 1) := dk_27 (dk_at dksJ21_indexOf_0 0 rfl rfl)
theorem dJ21_indexOf_1 : decode cJ21_indexOf 1 = .ok (.invokestatic 88, 3) := dk_184 0 88 (dk_at dksJ21_indexOf_0 1 rfl rfl)
theorem dJ21_indexOf_4 : decode cJ21_indexOf 4 = .ok (.ifCond .ne 5, 3) := dk_154 0 5 (dk_at dksJ21_indexOf_0 4 rfl rfl)
theorem dJ21_indexOf_7 : decode cJ21_indexOf 7 = .ok (.iconst (-1), 1) := dk_2 (dk_at dksJ21_indexOf_0 7 rfl rfl)
theorem dJ21_indexOf_8 : decode cJ21_indexOf 8 = .ok (.ireturn, 1) := dk_172 (dk_at dksJ21_indexOf_0 8 rfl rfl)
theorem dJ21_indexOf_9 : decode cJ21_indexOf 9 = .ok (.iload_n 2, 1) := dk_28 (dk_at dksJ21_indexOf_0 9 rfl rfl)
theorem dJ21_indexOf_10 : decode cJ21_indexOf 10 = .ok (.iconst 0, 1) := dk_3 (dk_at dksJ21_indexOf_0 10 rfl rfl)
theorem dJ21_indexOf_11 : decode cJ21_indexOf 11 = .ok (.invokestatic 92, 3) := dk_184 0 92 (dk_at dksJ21_indexOf_0 11 rfl rfl)
theorem dJ21_indexOf_14 : decode cJ21_indexOf 14 = .ok (.istore_n 2, 1) := dk_61 (dk_at dksJ21_indexOf_0 14 rfl rfl)
theorem dJ21_indexOf_15 : decode cJ21_indexOf 15 = .ok (.iload_n 3, 1) := dk_29 (dk_at dksJ21_indexOf_0 15 rfl rfl)
theorem dJ21_indexOf_16 : decode cJ21_indexOf 16 = .ok (.aload_n 0, 1) := dk_42 (dk_at dksJ21_indexOf_0 16 rfl rfl)
theorem dJ21_indexOf_17 : decode cJ21_indexOf 17 = .ok (.arraylength, 1) := dk_190 (dk_at dksJ21_indexOf_0 17 rfl rfl)
theorem dJ21_indexOf_18 : decode cJ21_indexOf 18 = .ok (.invokestatic 38, 3) := dk_184 0 38 (dk_at dksJ21_indexOf_0 18 rfl rfl)
theorem dJ21_indexOf_21 : decode cJ21_indexOf 21 = .ok (.istore_n 3, 1) := dk_62 (dk_at dksJ21_indexOf_0 21 rfl rfl)
theorem dJ21_indexOf_22 : decode cJ21_indexOf 22 = .ok (.iload_n 2, 1) := dk_28 (dk_at dksJ21_indexOf_0 22 rfl rfl)
theorem dJ21_indexOf_23 : decode cJ21_indexOf 23 = .ok (.iload_n 3, 1) := dk_29 (dk_at dksJ21_indexOf_0 23 rfl rfl)
theorem dJ21_indexOf_24 : decode cJ21_indexOf 24 = .ok (.if_icmp .lt 5, 3) := dk_161 0 5 (dk_at dksJ21_indexOf_1 0 rfl rfl)
theorem dJ21_indexOf_27 : decode cJ21_indexOf 27 = .ok (.iconst (-1), 1) := dk_2 (dk_at dksJ21_indexOf_1 3 rfl rfl)
theorem dJ21_indexOf_28 : decode cJ21_indexOf 28 = .ok (.ireturn, 1) := dk_172 (dk_at dksJ21_indexOf_1 4 rfl rfl)
theorem dJ21_indexOf_29 : decode cJ21_indexOf 29 = .ok (.aload_n 0, 1) := dk_42 (dk_at dksJ21_indexOf_1 5 rfl rfl)
theorem dJ21_indexOf_30 : decode cJ21_indexOf 30 = .ok (.iload_n 1, 1) := dk_27 (dk_at dksJ21_indexOf_1 6 rfl rfl)
theorem dJ21_indexOf_31 : decode cJ21_indexOf 31 = .ok (.iload_n 2, 1) := dk_28 (dk_at dksJ21_indexOf_1 7 rfl rfl)
theorem dJ21_indexOf_32 : decode cJ21_indexOf 32 = .ok (.iload_n 3, 1) := dk_29 (dk_at dksJ21_indexOf_1 8 rfl rfl)
theorem dJ21_indexOf_33 : decode cJ21_indexOf 33 = .ok (.invokestatic 95, 3) := dk_184 0 95 (dk_at dksJ21_indexOf_1 9 rfl rfl)
theorem dJ21_indexOf_36 : decode cJ21_indexOf 36 = .ok (.ireturn, 1) := dk_172 (dk_at dksJ21_indexOf_1 12 rfl rfl)
def dkwJ21_canEncode_0 : List UInt8 := [26, 155, 0, 14, 26, 17, 0, 255, 163, 0, 7, 4, 167, 0, 4, 3, 172]
abbrev dktJ21_canEncode_0 : List UInt8 := dkwJ21_canEncode_0 ++ []
theorem dksJ21_canEncode_0 : cJ21_canEncode.data.toList.drop 0 = dktJ21_canEncode_0 := by decide +kernel
theorem dJ21_canEncode_0 : decode cJ21_canEncode 0 = .ok (.iload_n 0, 1) := dk_26 (dk_at dksJ21_canEncode_0 0 rfl rfl)
theorem dJ21_canEncode_1 : decode cJ21_canEncode 1 = .ok (.ifCond .lt 14, 3) := dk_155 0 14 (dk_at dksJ21_canEncode_0 1 rfl rfl)
theorem dJ21_canEncode_4 : decode cJ21_canEncode 4 = .ok (.iload_n 0, 1) := dk_26 (dk_at dksJ21_canEncode_0 4 rfl rfl)
theorem dJ21_canEncode_5 : decode cJ21_canEncode 5 = .ok (.sipush 255, 3) := dk_17 0 255 (dk_at dksJ21_canEncode_0 5 rfl rfl)
theorem dJ21_canEncode_8 : decode cJ21_canEncode 8 = .ok (.if_icmp .gt 7, 3) := dk_163 0 7 (dk_at dksJ21_canEncode_0 8 rfl rfl)
theorem dJ21_canEncode_11 : decode cJ21_canEncode 11 = .ok (.iconst 1, 1) := dk_4 (dk_at dksJ21_canEncode_0 11 rfl rfl)
theorem dJ21_canEncode_12 : decode cJ21_canEncode 12 = .ok (.goto 4, 3) := dk_167 0 4 (dk_at dksJ21_canEncode_0 12 rfl rfl)
theorem dJ21_canEncode_15 : decode cJ21_canEncode 15 = .ok (.iconst 0, 1) := dk_3 (dk_at dksJ21_canEncode_0 15 rfl rfl)
theorem dJ21_canEncode_16 : decode cJ21_canEncode 16 = .ok (.ireturn, 1) := dk_172 (dk_at dksJ21_canEncode_0 16 rfl rfl)
def dkwJ21_indexOfChar_1 : List UInt8 := [172, 132, 5, 1, 167, 255, 235, 2, 172]
abbrev dktJ21_indexOfChar_1 : List UInt8 := dkwJ21_indexOfChar_1 ++ []
def dkwJ21_indexOfChar_0 : List UInt8 := [27, 145, 54, 4, 28, 54, 5, 21, 5, 29, 162, 0, 21, 42, 21, 5, 51, 21, 4, 160, 0, 6, 21, 5]
abbrev dktJ21_indexOfChar_0 : List UInt8 := dkwJ21_indexOfChar_0 ++ dktJ21_indexOfChar_1
theorem dksJ21_indexOfChar_0 : cJ21_indexOfChar.data.toList.drop 0 = dktJ21_indexOfChar_0 := by decide +kernel
theorem dksJ21_indexOfChar_1 : cJ21_indexOfChar.data.toList.drop 24 = dktJ21_indexOfChar_1 := dk_seg dksJ21_indexOfChar_0 24 rfl rfl
theorem dJ21_indexOfChar_0 : decode cJ21_indexOfChar 0 = .ok (.iload_n 1, 1) := dk_27 (dk_at dksJ21_indexOfChar_0 0 rfl rfl)
theorem dJ21_indexOfChar_1 : decode cJ21_indexOfChar 1 = .ok (.i2b, 1) := dk_145 (dk_at dksJ21_indexOfChar_0 1 rfl rfl)
theorem dJ21_indexOfChar_2 : decode cJ21_indexOfChar 2 = .ok (.istore 4, 2) := dk_54 4 (dk_at dksJ21_indexOfChar_0 2 rfl rfl)
theorem dJ21_indexOfChar_4 : decode cJ21_indexOfChar 4 = .ok (.iload_n 2, 1) := dk_28 (dk_at dksJ21_indexOfChar_0 4 rfl rfl)
theorem dJ21_indexOfChar_5 : decode cJ21_indexOfChar 5 = .ok (.istore 5, 2) := dk_54 5 (dk_at dksJ21_indexOfChar_0 5 rfl rfl)
theorem dJ21_indexOfChar_7 : decode cJ21_indexOfChar 7 = .ok (.iload 5, 2) := dk_21 5 (dk_at dksJ21_indexOfChar_0 7 rfl rfl)
theorem dJ21_indexOfChar_9 : decode cJ21_indexOfChar 9 = .ok (.iload_n 3, 1) := dk_29 (dk_at dksJ21_indexOfChar_0 9 rfl rfl)
theorem dJ21_indexOfChar_10 : decode cJ21_indexOfChar 10 = .ok (.if_icmp .ge 21, 3) := dk_162 0 21 (dk_at dksJ21_indexOfChar_0 10 rfl rfl)
theorem dJ21_indexOfChar_13 : decode cJ21_indexOfChar 13 = .ok (.aload_n 0, 1) := dk_42 (dk_at dksJ21_indexOfChar_0 13 rfl rfl)
theorem dJ21_indexOfChar_14 : decode cJ21_indexOfChar 14 = .ok (.iload 5, 2) := dk_21 5 (dk_at dksJ21_indexOfChar_0 14 rfl rfl)
theorem dJ21_indexOfChar_16 : decode cJ21_indexOfChar 16 = .ok (.baload, 1) := dk_51 (dk_at dksJ21_indexOfChar_0 16 rfl rfl)
theorem dJ21_indexOfChar_17 : decode cJ21_indexOfChar 17 = .ok (.iload 4, 2) := dk_21 4 (dk_at dksJ21_indexOfChar_0 17 rfl rfl)
theorem dJ21_indexOfChar_19 : decode cJ21_indexOfChar 19 = .ok (.if_icmp .ne 6, 3) := dk_160 0 6 (dk_at dksJ21_indexOfChar_0 19 rfl rfl)
theorem dJ21_indexOfChar_22 : decode cJ21_indexOfChar 22 = .ok (.iload 5, 2) := dk_21 5 (dk_at dksJ21_indexOfChar_0 22 rfl rfl)
theorem dJ21_indexOfChar_24 : decode cJ21_indexOfChar 24 = .ok (.ireturn, 1) := dk_172 (dk_at dksJ21_indexOfChar_1 0 rfl rfl)
theorem dJ21_indexOfChar_25 : decode cJ21_indexOfChar 25 = .ok (.iinc 5 1, 3) := dk_132 5 1 (dk_at dksJ21_indexOfChar_1 1 rfl rfl)
theorem dJ21_indexOfChar_28 : decode cJ21_indexOfChar 28 = .ok (.goto (-21), 3) := dk_167 255 235 (dk_at dksJ21_indexOfChar_1 4 rfl rfl)
theorem dJ21_indexOfChar_31 : decode cJ21_indexOfChar 31 = .ok (.iconst (-1), 1) := dk_2 (dk_at dksJ21_indexOfChar_1 7 rfl rfl)
theorem dJ21_indexOfChar_32 : decode cJ21_indexOfChar 32 = .ok (.ireturn, 1) := dk_172 (dk_at dksJ21_indexOfChar_1 8 rfl rfl)
def dkwJ21_inflate_0 : List UInt8 := [42, 27, 44, 29, 21, 4, 184, 0, 240, 177]
abbrev dktJ21_inflate_0 : List UInt8 := dkwJ21_inflate_0 ++ []
theorem dksJ21_inflate_0 : cJ21_inflate.data.toList.drop 0 = dktJ21_inflate_0 := by decide +kernel
theorem dJ21_inflate_0 : decode cJ21_inflate 0 = .ok (.aload_n 0, 1) := dk_42 (dk_at dksJ21_inflate_0 0 rfl rfl)
theorem dJ21_inflate_1 : decode cJ21_inflate 1 = .ok (.iload_n 1, 1) := dk_27 (dk_at dksJ21_inflate_0 1 rfl rfl)
theorem dJ21_inflate_2 : decode cJ21_inflate 2 = .ok (.aload_n 2, 1) := dk_44 (dk_at dksJ21_inflate_0 2 rfl rfl)
theorem dJ21_inflate_3 : decode cJ21_inflate 3 = .ok (.iload_n 3, 1) := dk_29 (dk_at dksJ21_inflate_0 3 rfl rfl)
theorem dJ21_inflate_4 : decode cJ21_inflate 4 = .ok (.iload 4, 2) := dk_21 4 (dk_at dksJ21_inflate_0 4 rfl rfl)
theorem dJ21_inflate_6 : decode cJ21_inflate 6 = .ok (.invokestatic 240, 3) := dk_184 0 240 (dk_at dksJ21_inflate_0 6 rfl rfl)
theorem dJ21_inflate_9 : decode cJ21_inflate 9 = .ok (.return_, 1) := dk_177 (dk_at dksJ21_inflate_0 9 rfl rfl)
def dkwJ21_canEncode_2_0 : List UInt8 := [26, 17, 0, 255, 163, 0, 7, 4, 167, 0, 4, 3, 172]
abbrev dktJ21_canEncode_2_0 : List UInt8 := dkwJ21_canEncode_2_0 ++ []
theorem dksJ21_canEncode_2_0 : cJ21_canEncode_2.data.toList.drop 0 = dktJ21_canEncode_2_0 := by decide +kernel
theorem dJ21_canEncode_2_0 : decode cJ21_canEncode_2 0 = .ok (.iload_n 0, 1) := dk_26 (dk_at dksJ21_canEncode_2_0 0 rfl rfl)
theorem dJ21_canEncode_2_1 : decode cJ21_canEncode_2 1 = .ok (.sipush 255, 3) := dk_17 0 255 (dk_at dksJ21_canEncode_2_0 1 rfl rfl)
theorem dJ21_canEncode_2_4 : decode cJ21_canEncode_2 4 = .ok (.if_icmp .gt 7, 3) := dk_163 0 7 (dk_at dksJ21_canEncode_2_0 4 rfl rfl)
theorem dJ21_canEncode_2_7 : decode cJ21_canEncode_2 7 = .ok (.iconst 1, 1) := dk_4 (dk_at dksJ21_canEncode_2_0 7 rfl rfl)
theorem dJ21_canEncode_2_8 : decode cJ21_canEncode_2 8 = .ok (.goto 4, 3) := dk_167 0 4 (dk_at dksJ21_canEncode_2_0 8 rfl rfl)
theorem dJ21_canEncode_2_11 : decode cJ21_canEncode_2 11 = .ok (.iconst 0, 1) := dk_3 (dk_at dksJ21_canEncode_2_0 11 rfl rfl)
theorem dJ21_canEncode_2_12 : decode cJ21_canEncode_2 12 = .ok (.ireturn, 1) := dk_172 (dk_at dksJ21_canEncode_2_0 12 rfl rfl)
def dkwJ21_fillNull_0 : List UInt8 := [42, 27, 28, 3, 184, 0, 236, 177]
abbrev dktJ21_fillNull_0 : List UInt8 := dkwJ21_fillNull_0 ++ []
theorem dksJ21_fillNull_0 : cJ21_fillNull.data.toList.drop 0 = dktJ21_fillNull_0 := by decide +kernel
theorem dJ21_fillNull_0 : decode cJ21_fillNull 0 = .ok (.aload_n 0, 1) := dk_42 (dk_at dksJ21_fillNull_0 0 rfl rfl)
theorem dJ21_fillNull_1 : decode cJ21_fillNull 1 = .ok (.iload_n 1, 1) := dk_27 (dk_at dksJ21_fillNull_0 1 rfl rfl)
theorem dJ21_fillNull_2 : decode cJ21_fillNull 2 = .ok (.iload_n 2, 1) := dk_28 (dk_at dksJ21_fillNull_0 2 rfl rfl)
theorem dJ21_fillNull_3 : decode cJ21_fillNull 3 = .ok (.iconst 0, 1) := dk_3 (dk_at dksJ21_fillNull_0 3 rfl rfl)
theorem dJ21_fillNull_4 : decode cJ21_fillNull 4 = .ok (.invokestatic 236, 3) := dk_184 0 236 (dk_at dksJ21_fillNull_0 4 rfl rfl)
theorem dJ21_fillNull_7 : decode cJ21_fillNull 7 = .ok (.return_, 1) := dk_177 (dk_at dksJ21_fillNull_0 7 rfl rfl)
def dkwJ22_isValidCodePoint_0 : List UInt8 := [26, 16, 16, 124, 60, 27, 16, 17, 162, 0, 7, 4, 167, 0, 4, 3, 172]
abbrev dktJ22_isValidCodePoint_0 : List UInt8 := dkwJ22_isValidCodePoint_0 ++ []
theorem dksJ22_isValidCodePoint_0 : cJ22_isValidCodePoint.data.toList.drop 0 = dktJ22_isValidCodePoint_0 := by decide +kernel
theorem dJ22_isValidCodePoint_0 : decode cJ22_isValidCodePoint 0 = .ok (.iload_n 0, 1) := dk_26 (dk_at dksJ22_isValidCodePoint_0 0 rfl rfl)
theorem dJ22_isValidCodePoint_1 : decode cJ22_isValidCodePoint 1 = .ok (.bipush 16, 2) := dk_16 16 (dk_at dksJ22_isValidCodePoint_0 1 rfl rfl)
theorem dJ22_isValidCodePoint_3 : decode cJ22_isValidCodePoint 3 = .ok (.iushr, 1) := dk_124 (dk_at dksJ22_isValidCodePoint_0 3 rfl rfl)
theorem dJ22_isValidCodePoint_4 : decode cJ22_isValidCodePoint 4 = .ok (.istore_n 1, 1) := dk_60 (dk_at dksJ22_isValidCodePoint_0 4 rfl rfl)
theorem dJ22_isValidCodePoint_5 : decode cJ22_isValidCodePoint 5 = .ok (.iload_n 1, 1) := dk_27 (dk_at dksJ22_isValidCodePoint_0 5 rfl rfl)
theorem dJ22_isValidCodePoint_6 : decode cJ22_isValidCodePoint 6 = .ok (.bipush 17, 2) := dk_16 17 (dk_at dksJ22_isValidCodePoint_0 6 rfl rfl)
theorem dJ22_isValidCodePoint_8 : decode cJ22_isValidCodePoint 8 = .ok (.if_icmp .ge 7, 3) := dk_162 0 7 (dk_at dksJ22_isValidCodePoint_0 8 rfl rfl)
theorem dJ22_isValidCodePoint_11 : decode cJ22_isValidCodePoint 11 = .ok (.iconst 1, 1) := dk_4 (dk_at dksJ22_isValidCodePoint_0 11 rfl rfl)
theorem dJ22_isValidCodePoint_12 : decode cJ22_isValidCodePoint 12 = .ok (.goto 4, 3) := dk_167 0 4 (dk_at dksJ22_isValidCodePoint_0 12 rfl rfl)
theorem dJ22_isValidCodePoint_15 : decode cJ22_isValidCodePoint 15 = .ok (.iconst 0, 1) := dk_3 (dk_at dksJ22_isValidCodePoint_0 15 rfl rfl)
theorem dJ22_isValidCodePoint_16 : decode cJ22_isValidCodePoint 16 = .ok (.ireturn, 1) := dk_172 (dk_at dksJ22_isValidCodePoint_0 16 rfl rfl)
def dkwJ22_highSurrogate_0 : List UInt8 := [26, 16, 10, 124, 18, 110, 96, 146, 172]
abbrev dktJ22_highSurrogate_0 : List UInt8 := dkwJ22_highSurrogate_0 ++ []
theorem dksJ22_highSurrogate_0 : cJ22_highSurrogate.data.toList.drop 0 = dktJ22_highSurrogate_0 := by decide +kernel
theorem dJ22_highSurrogate_0 : decode cJ22_highSurrogate 0 = .ok (.iload_n 0, 1) := dk_26 (dk_at dksJ22_highSurrogate_0 0 rfl rfl)
theorem dJ22_highSurrogate_1 : decode cJ22_highSurrogate 1 = .ok (.bipush 10, 2) := dk_16 10 (dk_at dksJ22_highSurrogate_0 1 rfl rfl)
theorem dJ22_highSurrogate_3 : decode cJ22_highSurrogate 3 = .ok (.iushr, 1) := dk_124 (dk_at dksJ22_highSurrogate_0 3 rfl rfl)
theorem dJ22_highSurrogate_4 : decode cJ22_highSurrogate 4 = .ok (.ldc 110, 2) := dk_18 110 (dk_at dksJ22_highSurrogate_0 4 rfl rfl)
theorem dJ22_highSurrogate_6 : decode cJ22_highSurrogate 6 = .ok (.iadd, 1) := dk_96 (dk_at dksJ22_highSurrogate_0 6 rfl rfl)
theorem dJ22_highSurrogate_7 : decode cJ22_highSurrogate 7 = .ok (.i2c, 1) := dk_146 (dk_at dksJ22_highSurrogate_0 7 rfl rfl)
theorem dJ22_highSurrogate_8 : decode cJ22_highSurrogate 8 = .ok (.ireturn, 1) := dk_172 (dk_at dksJ22_highSurrogate_0 8 rfl rfl)
def dkwJ22_lowSurrogate_0 : List UInt8 := [26, 17, 3, 255, 126, 18, 76, 96, 146, 172]
abbrev dktJ22_lowSurrogate_0 : List UInt8 := dkwJ22_lowSurrogate_0 ++ []
theorem dksJ22_lowSurrogate_0 : cJ22_lowSurrogate.data.toList.drop 0 = dktJ22_lowSurrogate_0 := by decide +kernel
theorem dJ22_lowSurrogate_0 : decode cJ22_lowSurrogate 0 = .ok (.iload_n 0, 1) := dk_26 (dk_at dksJ22_lowSurrogate_0 0 rfl rfl)
theorem dJ22_lowSurrogate_1 : decode cJ22_lowSurrogate 1 = .ok (.sipush 1023, 3) := dk_17 3 255 (dk_at dksJ22_lowSurrogate_0 1 rfl rfl)
theorem dJ22_lowSurrogate_4 : decode cJ22_lowSurrogate 4 = .ok (.iand, 1) := dk_126 (dk_at dksJ22_lowSurrogate_0 4 rfl rfl)
theorem dJ22_lowSurrogate_5 : decode cJ22_lowSurrogate 5 = .ok (.ldc 76, 2) := dk_18 76 (dk_at dksJ22_lowSurrogate_0 5 rfl rfl)
theorem dJ22_lowSurrogate_7 : decode cJ22_lowSurrogate 7 = .ok (.iadd, 1) := dk_96 (dk_at dksJ22_lowSurrogate_0 7 rfl rfl)
theorem dJ22_lowSurrogate_8 : decode cJ22_lowSurrogate 8 = .ok (.i2c, 1) := dk_146 (dk_at dksJ22_lowSurrogate_0 8 rfl rfl)
theorem dJ22_lowSurrogate_9 : decode cJ22_lowSurrogate 9 = .ok (.ireturn, 1) := dk_172 (dk_at dksJ22_lowSurrogate_0 9 rfl rfl)
def dkwJ23_init_0 : List UInt8 := [42, 43, 183, 0, 7, 177]
abbrev dktJ23_init_0 : List UInt8 := dkwJ23_init_0 ++ []
theorem dksJ23_init_0 : cJ23_init.data.toList.drop 0 = dktJ23_init_0 := by decide +kernel
theorem dJ23_init_0 : decode cJ23_init 0 = .ok (.aload_n 0, 1) := dk_42 (dk_at dksJ23_init_0 0 rfl rfl)
theorem dJ23_init_1 : decode cJ23_init 1 = .ok (.aload_n 1, 1) := dk_43 (dk_at dksJ23_init_0 1 rfl rfl)
theorem dJ23_init_2 : decode cJ23_init 2 = .ok (.invokespecial 7, 3) := dk_183 0 7 (dk_at dksJ23_init_0 2 rfl rfl)
theorem dJ23_init_5 : decode cJ23_init 5 = .ok (.return_, 1) := dk_177 (dk_at dksJ23_init_0 5 rfl rfl)
theorem dJ23_init_2_0 : decode cJ23_init_2 0 = .ok (.aload_n 0, 1) := by decide +kernel
theorem dJ23_init_2_1 : decode cJ23_init_2 1 = .ok (.invokespecial 1, 3) := by decide +kernel
theorem dJ23_init_2_4 : decode cJ23_init_2 4 = .ok (.return_, 1) := by decide +kernel
def dkwJ24_stringSize_1 : List UInt8 := [164, 0, 7, 29, 27, 96, 172, 16, 10, 28, 104, 61, 132, 3, 1, 167, 255, 233, 16, 10, 27, 96, 172]
abbrev dktJ24_stringSize_1 : List UInt8 := dkwJ24_stringSize_1 ++ []
def dkwJ24_stringSize_0 : List UInt8 := [4, 60, 26, 155, 0, 8, 3, 60, 26, 116, 59, 16, 246, 61, 4, 62, 29, 16, 10, 162, 0, 23, 26, 28]
abbrev dktJ24_stringSize_0 : List UInt8 := dkwJ24_stringSize_0 ++ dktJ24_stringSize_1
theorem dksJ24_stringSize_0 : cJ24_stringSize.data.toList.drop 0 = dktJ24_stringSize_0 := by decide +kernel
theorem dksJ24_stringSize_1 : cJ24_stringSize.data.toList.drop 24 = dktJ24_stringSize_1 := dk_seg dksJ24_stringSize_0 24 rfl rfl
theorem dJ24_stringSize_0 : decode cJ24_stringSize 0 = .ok (.iconst 1, 1) := dk_4 (dk_at dksJ24_stringSize_0 0 rfl rfl)
theorem dJ24_stringSize_1 : decode cJ24_stringSize 1 = .ok (.istore_n 1, 1) := dk_60 (dk_at dksJ24_stringSize_0 1 rfl rfl)
theorem dJ24_stringSize_2 : decode cJ24_stringSize 2 = .ok (.iload_n 0, 1) := dk_26 (dk_at dksJ24_stringSize_0 2 rfl rfl)
theorem dJ24_stringSize_3 : decode cJ24_stringSize 3 = .ok (.ifCond .lt 8, 3) := dk_155 0 8 (dk_at dksJ24_stringSize_0 3 rfl rfl)
theorem dJ24_stringSize_6 : decode cJ24_stringSize 6 = .ok (.iconst 0, 1) := dk_3 (dk_at dksJ24_stringSize_0 6 rfl rfl)
theorem dJ24_stringSize_7 : decode cJ24_stringSize 7 = .ok (.istore_n 1, 1) := dk_60 (dk_at dksJ24_stringSize_0 7 rfl rfl)
theorem dJ24_stringSize_8 : decode cJ24_stringSize 8 = .ok (.iload_n 0, 1) := dk_26 (dk_at dksJ24_stringSize_0 8 rfl rfl)
theorem dJ24_stringSize_9 : decode cJ24_stringSize 9 = .ok (.ineg, 1) := dk_116 (dk_at dksJ24_stringSize_0 9 rfl rfl)
theorem dJ24_stringSize_10 : decode cJ24_stringSize 10 = .ok (.istore_n 0, 1) := dk_59 (dk_at dksJ24_stringSize_0 10 rfl rfl)
theorem dJ24_stringSize_11 : decode cJ24_stringSize 11 = .ok (.bipush (-10), 2) := dk_16 246 (dk_at dksJ24_stringSize_0 11 rfl rfl)
theorem dJ24_stringSize_13 : decode cJ24_stringSize 13 = .ok (.istore_n 2, 1) := dk_61 (dk_at dksJ24_stringSize_0 13 rfl rfl)
theorem dJ24_stringSize_14 : decode cJ24_stringSize 14 = .ok (.iconst 1, 1) := dk_4 (dk_at dksJ24_stringSize_0 14 rfl rfl)
theorem dJ24_stringSize_15 : decode cJ24_stringSize 15 = .ok (.istore_n 3, 1) := dk_62 (dk_at dksJ24_stringSize_0 15 rfl rfl)
theorem dJ24_stringSize_16 : decode cJ24_stringSize 16 = .ok (.iload_n 3, 1) := dk_29 (dk_at dksJ24_stringSize_0 16 rfl rfl)
theorem dJ24_stringSize_17 : decode cJ24_stringSize 17 = .ok (.bipush 10, 2) := dk_16 10 (dk_at dksJ24_stringSize_0 17 rfl rfl)
theorem dJ24_stringSize_19 : decode cJ24_stringSize 19 = .ok (.if_icmp .ge 23, 3) := dk_162 0 23 (dk_at dksJ24_stringSize_0 19 rfl rfl)
theorem dJ24_stringSize_22 : decode cJ24_stringSize 22 = .ok (.iload_n 0, 1) := dk_26 (dk_at dksJ24_stringSize_0 22 rfl rfl)
theorem dJ24_stringSize_23 : decode cJ24_stringSize 23 = .ok (.iload_n 2, 1) := dk_28 (dk_at dksJ24_stringSize_0 23 rfl rfl)
theorem dJ24_stringSize_24 : decode cJ24_stringSize 24 = .ok (.if_icmp .le 7, 3) := dk_164 0 7 (dk_at dksJ24_stringSize_1 0 rfl rfl)
theorem dJ24_stringSize_27 : decode cJ24_stringSize 27 = .ok (.iload_n 3, 1) := dk_29 (dk_at dksJ24_stringSize_1 3 rfl rfl)
theorem dJ24_stringSize_28 : decode cJ24_stringSize 28 = .ok (.iload_n 1, 1) := dk_27 (dk_at dksJ24_stringSize_1 4 rfl rfl)
theorem dJ24_stringSize_29 : decode cJ24_stringSize 29 = .ok (.iadd, 1) := dk_96 (dk_at dksJ24_stringSize_1 5 rfl rfl)
theorem dJ24_stringSize_30 : decode cJ24_stringSize 30 = .ok (.ireturn, 1) := dk_172 (dk_at dksJ24_stringSize_1 6 rfl rfl)
theorem dJ24_stringSize_31 : decode cJ24_stringSize 31 = .ok (.bipush 10, 2) := dk_16 10 (dk_at dksJ24_stringSize_1 7 rfl rfl)
theorem dJ24_stringSize_33 : decode cJ24_stringSize 33 = .ok (.iload_n 2, 1) := dk_28 (dk_at dksJ24_stringSize_1 9 rfl rfl)
theorem dJ24_stringSize_34 : decode cJ24_stringSize 34 = .ok (.imul, 1) := dk_104 (dk_at dksJ24_stringSize_1 10 rfl rfl)
theorem dJ24_stringSize_35 : decode cJ24_stringSize 35 = .ok (.istore_n 2, 1) := dk_61 (dk_at dksJ24_stringSize_1 11 rfl rfl)
theorem dJ24_stringSize_36 : decode cJ24_stringSize 36 = .ok (.iinc 3 1, 3) := dk_132 3 1 (dk_at dksJ24_stringSize_1 12 rfl rfl)
theorem dJ24_stringSize_39 : decode cJ24_stringSize 39 = .ok (.goto (-23), 3) := dk_167 255 233 (dk_at dksJ24_stringSize_1 15 rfl rfl)
theorem dJ24_stringSize_42 : decode cJ24_stringSize 42 = .ok (.bipush 10, 2) := dk_16 10 (dk_at dksJ24_stringSize_1 18 rfl rfl)
theorem dJ24_stringSize_44 : decode cJ24_stringSize 44 = .ok (.iload_n 1, 1) := dk_27 (dk_at dksJ24_stringSize_1 20 rfl rfl)
theorem dJ24_stringSize_45 : decode cJ24_stringSize 45 = .ok (.iadd, 1) := dk_96 (dk_at dksJ24_stringSize_1 21 rfl rfl)
theorem dJ24_stringSize_46 : decode cJ24_stringSize 46 = .ok (.ireturn, 1) := dk_172 (dk_at dksJ24_stringSize_1 22 rfl rfl)
def dkwJ24_getChars_5 : List UInt8 := [16, 45, 84, 21, 5, 172]
abbrev dktJ24_getChars_5 : List UInt8 := dkwJ24_getChars_5 ++ []
def dkwJ24_getChars_4 : List UInt8 := [132, 5, 255, 21, 5, 178, 0, 87, 26, 116, 51, 84, 21, 6, 153, 0, 12, 44, 132, 5, 255, 21, 5]
abbrev dktJ24_getChars_4 : List UInt8 := dkwJ24_getChars_4 ++ dktJ24_getChars_5
def dkwJ24_getChars_3 : List UInt8 := [167, 255, 209, 44, 132, 5, 255, 21, 5, 178, 0, 83, 26, 116, 51, 84, 26, 16, 247, 162, 0, 16, 44]
abbrev dktJ24_getChars_3 : List UInt8 := dkwJ24_getChars_3 ++ dktJ24_getChars_4
def dkwJ24_getChars_2 : List UInt8 := [21, 5, 178, 0, 83, 21, 4, 51, 84, 44, 132, 5, 255, 21, 5, 178, 0, 87, 21, 4, 51, 84]
abbrev dktJ24_getChars_2 : List UInt8 := dkwJ24_getChars_2 ++ dktJ24_getChars_3
def dkwJ24_getChars_1 : List UInt8 := [16, 156, 163, 0, 47, 26, 16, 100, 108, 62, 29, 16, 100, 104, 26, 100, 54, 4, 29, 59, 44, 132, 5, 255]
abbrev dktJ24_getChars_1 : List UInt8 := dkwJ24_getChars_1 ++ dktJ24_getChars_2
def dkwJ24_getChars_0 : List UInt8 := [27, 54, 5, 26, 156, 0, 7, 4, 167, 0, 4, 3, 54, 6, 21, 6, 154, 0, 6, 26, 116, 59, 26]
abbrev dktJ24_getChars_0 : List UInt8 := dkwJ24_getChars_0 ++ dktJ24_getChars_1
theorem dksJ24_getChars_0 : cJ24_getChars.data.toList.drop 0 = dktJ24_getChars_0 := by decide +kernel
theorem dksJ24_getChars_1 : cJ24_getChars.data.toList.drop 23 = dktJ24_getChars_1 := dk_seg dksJ24_getChars_0 23 rfl rfl
theorem dksJ24_getChars_2 : cJ24_getChars.data.toList.drop 47 = dktJ24_getChars_2 := dk_seg dksJ24_getChars_1 24 rfl rfl
theorem dksJ24_getChars_3 : cJ24_getChars.data.toList.drop 69 = dktJ24_getChars_3 := dk_seg dksJ24_getChars_2 22 rfl rfl
theorem dksJ24_getChars_4 : cJ24_getChars.data.toList.drop 92 = dktJ24_getChars_4 := dk_seg dksJ24_getChars_3 23 rfl rfl
theorem dksJ24_getChars_5 : cJ24_getChars.data.toList.drop 115 = dktJ24_getChars_5 := dk_seg dksJ24_getChars_4 23 rfl rfl
theorem dJ24_getChars_0 : decode cJ24_getChars 0 = .ok (.iload_n 1, 1) := dk_27 (dk_at dksJ24_getChars_0 0 rfl rfl)
theorem dJ24_getChars_1 : decode cJ24_getChars 1 = .ok (.istore 5, 2) := dk_54 5 (dk_at dksJ24_getChars_0 1 rfl rfl)
theorem dJ24_getChars_3 : decode cJ24_getChars 3 = .ok (.iload_n 0, 1) := dk_26 (dk_at dksJ24_getChars_0 3 rfl rfl)
theorem dJ24_getChars_4 : decode cJ24_getChars 4 = .ok (.ifCond .ge 7, 3) := dk_156 0 7 (dk_at dksJ24_getChars_0 4 rfl rfl)
theorem dJ24_getChars_7 : decode cJ24_getChars 7 = .ok (.iconst 1, 1) := dk_4 (dk_at dksJ24_getChars_0 7 rfl rfl)
theorem dJ24_getChars_8 : decode cJ24_getChars 8 = .ok (.goto 4, 3) := dk_167 0 4 (dk_at dksJ24_getChars_0 8 rfl rfl)
theorem dJ24_getChars_11 : decode cJ24_getChars 11 = .ok (.iconst 0, 1) := dk_3 (dk_at dksJ24_getChars_0 11 rfl rfl)
theorem dJ24_getChars_12 : decode cJ24_getChars 12 = .ok (.istore 6, 2) := dk_54 6 (dk_at dksJ24_getChars_0 12 rfl rfl)
theorem dJ24_getChars_14 : decode cJ24_getChars 14 = .ok (.iload 6, 2) := dk_21 6 (dk_at dksJ24_getChars_0 14 rfl rfl)
theorem dJ24_getChars_16 : decode cJ24_getChars 16 = .ok (.ifCond .ne 6, 3) := dk_154 0 6 (dk_at dksJ24_getChars_0 16 rfl rfl)
theorem dJ24_getChars_19 : decode cJ24_getChars 19 = .ok (.iload_n 0, 1) := dk_26 (dk_at dksJ24_getChars_0 19 rfl rfl)
theorem dJ24_getChars_20 : decode cJ24_getChars 20 = .ok (.ineg, 1) := dk_116 (dk_at dksJ24_getChars_0 20 rfl rfl)
theorem dJ24_getChars_21 : decode cJ24_getChars 21 = .ok (.istore_n 0, 1) := dk_59 (dk_at dksJ24_getChars_0 21 rfl rfl)
theorem dJ24_getChars_22 : decode cJ24_getChars 22 = .ok (.iload_n 0, 1) := dk_26 (dk_at dksJ24_getChars_0 22 rfl rfl)
theorem dJ24_getChars_23 : decode cJ24_getChars 23 = .ok (.bipush (-100), 2) := dk_16 156 (dk_at dksJ24_getChars_1 0 rfl rfl)
theorem dJ24_getChars_25 : decode cJ24_getChars 25 = .ok (.if_icmp .gt 47, 3) := dk_163 0 47 (dk_at dksJ24_getChars_1 2 rfl rfl)
theorem dJ24_getChars_28 : decode cJ24_getChars 28 = .ok (.iload_n 0, 1) := dk_26 (dk_at dksJ24_getChars_1 5 rfl rfl)
theorem dJ24_getChars_29 : decode cJ24_getChars 29 = .ok (.bipush 100, 2) := dk_16 100 (dk_at dksJ24_getChars_1 6 rfl rfl)
theorem dJ24_getChars_31 : decode cJ24_getChars 31 = .ok (.idiv, 1) := dk_108 (dk_at dksJ24_getChars_1 8 rfl rfl)
theorem dJ24_getChars_32 : decode cJ24_getChars 32 = .ok (.istore_n 3, 1) := dk_62 (dk_at dksJ24_getChars_1 9 rfl rfl)
theorem dJ24_getChars_33 : decode cJ24_getChars 33 = .ok (.iload_n 3, 1) := dk_29 (dk_at dksJ24_getChars_1 10 rfl rfl)
theorem dJ24_getChars_34 : decode cJ24_getChars 34 = .ok (.bipush 100, 2) := dk_16 100 (dk_at dksJ24_getChars_1 11 rfl rfl)
theorem dJ24_getChars_36 : decode cJ24_getChars 36 = .ok (.imul, 1) := dk_104 (dk_at dksJ24_getChars_1 13 rfl rfl)
theorem dJ24_getChars_37 : decode cJ24_getChars 37 = .ok (.iload_n 0, 1) := dk_26 (dk_at dksJ24_getChars_1 14 rfl rfl)
theorem dJ24_getChars_38 : decode cJ24_getChars 38 = .ok (.isub, 1) := dk_100 (dk_at dksJ24_getChars_1 15 rfl rfl)
theorem dJ24_getChars_39 : decode cJ24_getChars 39 = .ok (.istore 4, 2) := dk_54 4 (dk_at dksJ24_getChars_1 16 rfl rfl)
theorem dJ24_getChars_41 : decode cJ24_getChars 41 = .ok (.iload_n 3, 1) := dk_29 (dk_at dksJ24_getChars_1 18 rfl rfl)
theorem dJ24_getChars_42 : decode cJ24_getChars 42 = .ok (.istore_n 0, 1) := dk_59 (dk_at dksJ24_getChars_1 19 rfl rfl)
theorem dJ24_getChars_43 : decode cJ24_getChars 43 = .ok (.aload_n 2, 1) := dk_44 (dk_at dksJ24_getChars_1 20 rfl rfl)
theorem dJ24_getChars_44 : decode cJ24_getChars 44 = .ok (.iinc 5 (-1), 3) := dk_132 5 255 (dk_at dksJ24_getChars_1 21 rfl rfl)
theorem dJ24_getChars_47 : decode cJ24_getChars 47 = .ok (.iload 5, 2) := dk_21 5 (dk_at dksJ24_getChars_2 0 rfl rfl)
theorem dJ24_getChars_49 : decode cJ24_getChars 49 = .ok (.getstatic 83, 3) := dk_178 0 83 (dk_at dksJ24_getChars_2 2 rfl rfl)
theorem dJ24_getChars_52 : decode cJ24_getChars 52 = .ok (.iload 4, 2) := dk_21 4 (dk_at dksJ24_getChars_2 5 rfl rfl)
theorem dJ24_getChars_54 : decode cJ24_getChars 54 = .ok (.baload, 1) := dk_51 (dk_at dksJ24_getChars_2 7 rfl rfl)
theorem dJ24_getChars_55 : decode cJ24_getChars 55 = .ok (.bastore, 1) := dk_84 (dk_at dksJ24_getChars_2 8 rfl rfl)
theorem dJ24_getChars_56 : decode cJ24_getChars 56 = .ok (.aload_n 2, 1) := dk_44 (dk_at dksJ24_getChars_2 9 rfl rfl)
theorem dJ24_getChars_57 : decode cJ24_getChars 57 = .ok (.iinc 5 (-1), 3) := dk_132 5 255 (dk_at dksJ24_getChars_2 10 rfl rfl)
theorem dJ24_getChars_60 : decode cJ24_getChars 60 = .ok (.iload 5, 2) := dk_21 5 (dk_at dksJ24_getChars_2 13 rfl rfl)
theorem dJ24_getChars_62 : decode cJ24_getChars 62 = .ok (.getstatic 87, 3) := dk_178 0 87 (dk_at dksJ24_getChars_2 15 rfl rfl)
theorem dJ24_getChars_65 : decode cJ24_getChars 65 = .ok (.iload 4, 2) := dk_21 4 (dk_at dksJ24_getChars_2 18 rfl rfl)
theorem dJ24_getChars_67 : decode cJ24_getChars 67 = .ok (.baload, 1) := dk_51 (dk_at dksJ24_getChars_2 20 rfl rfl)
theorem dJ24_getChars_68 : decode cJ24_getChars 68 = .ok (.bastore, 1) := dk_84 (dk_at dksJ24_getChars_2 21 rfl rfl)
theorem dJ24_getChars_69 : decode cJ24_getChars 69 = .ok (.goto (-47), 3) := dk_167 255 209 (dk_at dksJ24_getChars_3 0 rfl rfl)
theorem dJ24_getChars_72 : decode cJ24_getChars 72 = .ok (.aload_n 2, 1) := dk_44 (dk_at dksJ24_getChars_3 3 rfl rfl)
theorem dJ24_getChars_73 : decode cJ24_getChars 73 = .ok (.iinc 5 (-1), 3) := dk_132 5 255 (dk_at dksJ24_getChars_3 4 rfl rfl)
theorem dJ24_getChars_76 : decode cJ24_getChars 76 = .ok (.iload 5, 2) := dk_21 5 (dk_at dksJ24_getChars_3 7 rfl rfl)
theorem dJ24_getChars_78 : decode cJ24_getChars 78 = .ok (.getstatic 83, 3) := dk_178 0 83 (dk_at dksJ24_getChars_3 9 rfl rfl)
theorem dJ24_getChars_81 : decode cJ24_getChars 81 = .ok (.iload_n 0, 1) := dk_26 (dk_at dksJ24_getChars_3 12 rfl rfl)
theorem dJ24_getChars_82 : decode cJ24_getChars 82 = .ok (.ineg, 1) := dk_116 (dk_at dksJ24_getChars_3 13 rfl rfl)
theorem dJ24_getChars_83 : decode cJ24_getChars 83 = .ok (.baload, 1) := dk_51 (dk_at dksJ24_getChars_3 14 rfl rfl)
theorem dJ24_getChars_84 : decode cJ24_getChars 84 = .ok (.bastore, 1) := dk_84 (dk_at dksJ24_getChars_3 15 rfl rfl)
theorem dJ24_getChars_85 : decode cJ24_getChars 85 = .ok (.iload_n 0, 1) := dk_26 (dk_at dksJ24_getChars_3 16 rfl rfl)
theorem dJ24_getChars_86 : decode cJ24_getChars 86 = .ok (.bipush (-9), 2) := dk_16 247 (dk_at dksJ24_getChars_3 17 rfl rfl)
theorem dJ24_getChars_88 : decode cJ24_getChars 88 = .ok (.if_icmp .ge 16, 3) := dk_162 0 16 (dk_at dksJ24_getChars_3 19 rfl rfl)
theorem dJ24_getChars_91 : decode cJ24_getChars 91 = .ok (.aload_n 2, 1) := dk_44 (dk_at dksJ24_getChars_3 22 rfl rfl)
theorem dJ24_getChars_92 : decode cJ24_getChars 92 = .ok (.iinc 5 (-1), 3) := dk_132 5 255 (dk_at dksJ24_getChars_4 0 rfl rfl)
theorem dJ24_getChars_95 : decode cJ24_getChars 95 = .ok (.iload 5, 2) := dk_21 5 (dk_at dksJ24_getChars_4 3 rfl rfl)
theorem dJ24_getChars_97 : decode cJ24_getChars 97 = .ok (.getstatic 87, 3) := dk_178 0 87 (dk_at dksJ24_getChars_4 5 rfl rfl)
theorem dJ24_getChars_100 : decode cJ24_getChars 100 = .ok (.iload_n 0, 1) := dk_26 (dk_at dksJ24_getChars_4 8 rfl rfl)
theorem dJ24_getChars_101 : decode cJ24_getChars 101 = .ok (.ineg, 1) := dk_116 (dk_at dksJ24_getChars_4 9 rfl rfl)
theorem dJ24_getChars_102 : decode cJ24_getChars 102 = .ok (.baload, 1) := dk_51 (dk_at dksJ24_getChars_4 10 rfl rfl)
theorem dJ24_getChars_103 : decode cJ24_getChars 103 = .ok (.bastore, 1) := dk_84 (dk_at dksJ24_getChars_4 11 rfl rfl)
theorem dJ24_getChars_104 : decode cJ24_getChars 104 = .ok (.iload 6, 2) := dk_21 6 (dk_at dksJ24_getChars_4 12 rfl rfl)
theorem dJ24_getChars_106 : decode cJ24_getChars 106 = .ok (.ifCond .eq 12, 3) := dk_153 0 12 (dk_at dksJ24_getChars_4 14 rfl rfl)
theorem dJ24_getChars_109 : decode cJ24_getChars 109 = .ok (.aload_n 2, 1) := dk_44 (dk_at dksJ24_getChars_4 17 rfl rfl)
theorem dJ24_getChars_110 : decode cJ24_getChars 110 = .ok (.iinc 5 (-1), 3) := dk_132 5 255 (dk_at dksJ24_getChars_4 18 rfl rfl)
theorem dJ24_getChars_113 : decode cJ24_getChars 113 = .ok (.iload 5, 2) := dk_21 5 (dk_at dksJ24_getChars_4 21 rfl rfl)
theorem dJ24_getChars_115 : decode cJ24_getChars 115 = .ok (.bipush 45, 2) := dk_16 45 (dk_at dksJ24_getChars_5 0 rfl rfl)
theorem dJ24_getChars_117 : decode cJ24_getChars 117 = .ok (.bastore, 1) := dk_84 (dk_at dksJ24_getChars_5 2 rfl rfl)
theorem dJ24_getChars_118 : decode cJ24_getChars 118 = .ok (.iload 5, 2) := dk_21 5 (dk_at dksJ24_getChars_5 3 rfl rfl)
theorem dJ24_getChars_120 : decode cJ24_getChars 120 = .ok (.ireturn, 1) := dk_172 (dk_at dksJ24_getChars_5 5 rfl rfl)
theorem dJ25_init_0 : decode cJ25_init 0 = .ok (.aload_n 0, 1) := by decide +kernel
theorem dJ25_init_1 : decode cJ25_init 1 = .ok (.invokespecial 1, 3) := by decide +kernel
theorem dJ25_init_4 : decode cJ25_init 4 = .ok (.return_, 1) := by decide +kernel
def dkwJ26_init_0 : List UInt8 := [42, 187, 0, 10, 89, 183, 0, 12, 18, 13, 182, 0, 15, 27, 182, 0, 19, 182, 0, 22, 183, 0, 7, 177]
abbrev dktJ26_init_0 : List UInt8 := dkwJ26_init_0 ++ []
theorem dksJ26_init_0 : cJ26_init.data.toList.drop 0 = dktJ26_init_0 := by decide +kernel
theorem dJ26_init_0 : decode cJ26_init 0 = .ok (.aload_n 0, 1) := dk_42 (dk_at dksJ26_init_0 0 rfl rfl)
theorem dJ26_init_1 : decode cJ26_init 1 = .ok (.new 10, 3) := dk_187 0 10 (dk_at dksJ26_init_0 1 rfl rfl)
theorem dJ26_init_4 : decode cJ26_init 4 = .ok (.dup, 1) := dk_89 (dk_at dksJ26_init_0 4 rfl rfl)
theorem dJ26_init_5 : decode cJ26_init 5 = .ok (.invokespecial 12, 3) := dk_183 0 12 (dk_at dksJ26_init_0 5 rfl rfl)
theorem dJ26_init_8 : decode cJ26_init 8 = .ok (.ldc 13, 2) := dk_18 13 (dk_at dksJ26_init_0 8 rfl rfl)
theorem dJ26_init_10 : decode cJ26_init 10 = .ok (.invokevirtual 15, 3) := dk_182 0 15 (dk_at dksJ26_init_0 10 rfl rfl)
theorem dJ26_init_13 : decode cJ26_init 13 = .ok (.iload_n 1, 1) := dk_27 (dk_at dksJ26_init_0 13 rfl rfl)
theorem dJ26_init_14 : decode cJ26_init 14 = .ok (.invokevirtual 19, 3) := dk_182 0 19 (dk_at dksJ26_init_0 14 rfl rfl)
theorem dJ26_init_17 : decode cJ26_init 17 = .ok (.invokevirtual 22, 3) := dk_182 0 22 (dk_at dksJ26_init_0 17 rfl rfl)
theorem dJ26_init_20 : decode cJ26_init 20 = .ok (.invokespecial 7, 3) := dk_183 0 7 (dk_at dksJ26_init_0 20 rfl rfl)
theorem dJ26_init_23 : decode cJ26_init 23 = .ok (.return_, 1) := dk_177 (dk_at dksJ26_init_0 23 rfl rfl)
theorem dJ27_init_0 : decode cJ27_init 0 = .ok (.return_, 1) := by decide +kernel
def dkwJ3_init_1 : List UInt8 := [181, 0, 22, 177]
abbrev dktJ3_init_1 : List UInt8 := dkwJ3_init_1 ++ []
def dkwJ3_init_0 : List UInt8 := [42, 43, 181, 0, 1, 42, 183, 0, 7, 42, 2, 181, 0, 13, 42, 42, 180, 0, 1, 180, 0, 17]
abbrev dktJ3_init_0 : List UInt8 := dkwJ3_init_0 ++ dktJ3_init_1
theorem dksJ3_init_0 : cJ3_init.data.toList.drop 0 = dktJ3_init_0 := by decide +kernel
theorem dksJ3_init_1 : cJ3_init.data.toList.drop 22 = dktJ3_init_1 := dk_seg dksJ3_init_0 22 rfl rfl
theorem dJ3_init_0 : decode cJ3_init 0 = .ok (.aload_n 0, 1) := dk_42 (dk_at dksJ3_init_0 0 rfl rfl)
theorem dJ3_init_1 : decode cJ3_init 1 = .ok (.aload_n 1, 1) := dk_43 (dk_at dksJ3_init_0 1 rfl rfl)
theorem dJ3_init_2 : decode cJ3_init 2 = .ok (.putfield 1, 3) := dk_181 0 1 (dk_at dksJ3_init_0 2 rfl rfl)
theorem dJ3_init_5 : decode cJ3_init 5 = .ok (.aload_n 0, 1) := dk_42 (dk_at dksJ3_init_0 5 rfl rfl)
theorem dJ3_init_6 : decode cJ3_init 6 = .ok (.invokespecial 7, 3) := dk_183 0 7 (dk_at dksJ3_init_0 6 rfl rfl)
theorem dJ3_init_9 : decode cJ3_init 9 = .ok (.aload_n 0, 1) := dk_42 (dk_at dksJ3_init_0 9 rfl rfl)
theorem dJ3_init_10 : decode cJ3_init 10 = .ok (.iconst (-1), 1) := dk_2 (dk_at dksJ3_init_0 10 rfl rfl)
theorem dJ3_init_11 : decode cJ3_init 11 = .ok (.putfield 13, 3) := dk_181 0 13 (dk_at dksJ3_init_0 11 rfl rfl)
theorem dJ3_init_14 : decode cJ3_init 14 = .ok (.aload_n 0, 1) := dk_42 (dk_at dksJ3_init_0 14 rfl rfl)
theorem dJ3_init_15 : decode cJ3_init 15 = .ok (.aload_n 0, 1) := dk_42 (dk_at dksJ3_init_0 15 rfl rfl)
theorem dJ3_init_16 : decode cJ3_init 16 = .ok (.getfield 1, 3) := dk_180 0 1 (dk_at dksJ3_init_0 16 rfl rfl)
theorem dJ3_init_19 : decode cJ3_init 19 = .ok (.getfield 17, 3) := dk_180 0 17 (dk_at dksJ3_init_0 19 rfl rfl)
theorem dJ3_init_22 : decode cJ3_init 22 = .ok (.putfield 22, 3) := dk_181 0 22 (dk_at dksJ3_init_1 0 rfl rfl)
theorem dJ3_init_25 : decode cJ3_init 25 = .ok (.return_, 1) := dk_177 (dk_at dksJ3_init_1 3 rfl rfl)
def dkwJ3_hasNext_0 : List UInt8 := [42, 180, 0, 25, 42, 180, 0, 1, 180, 0, 28, 159, 0, 7, 4, 167, 0, 4, 3, 172]
abbrev dktJ3_hasNext_0 : List UInt8 := dkwJ3_hasNext_0 ++ []
theorem dksJ3_hasNext_0 : cJ3_hasNext.data.toList.drop 0 = dktJ3_hasNext_0 := by decide +kernel
theorem dJ3_hasNext_0 : decode cJ3_hasNext 0 = .ok (.aload_n 0, 1) := dk_42 (dk_at dksJ3_hasNext_0 0 rfl rfl)
theorem dJ3_hasNext_1 : decode cJ3_hasNext 1 = .ok (.getfield 25, 3) := dk_180 0 25 (dk_at dksJ3_hasNext_0 1 rfl rfl)
theorem dJ3_hasNext_4 : decode cJ3_hasNext 4 = .ok (.aload_n 0, 1) := dk_42 (dk_at dksJ3_hasNext_0 4 rfl rfl)
theorem dJ3_hasNext_5 : decode cJ3_hasNext 5 = .ok (.getfield 1, 3) := dk_180 0 1 (dk_at dksJ3_hasNext_0 5 rfl rfl)
theorem dJ3_hasNext_8 : decode cJ3_hasNext 8 = .ok (.getfield 28, 3) := dk_180 0 28 (dk_at dksJ3_hasNext_0 8 rfl rfl)
theorem dJ3_hasNext_11 : decode cJ3_hasNext 11 = .ok (.if_icmp .eq 7, 3) := dk_159 0 7 (dk_at dksJ3_hasNext_0 11 rfl rfl)
theorem dJ3_hasNext_14 : decode cJ3_hasNext 14 = .ok (.iconst 1, 1) := dk_4 (dk_at dksJ3_hasNext_0 14 rfl rfl)
theorem dJ3_hasNext_15 : decode cJ3_hasNext 15 = .ok (.goto 4, 3) := dk_167 0 4 (dk_at dksJ3_hasNext_0 15 rfl rfl)
theorem dJ3_hasNext_18 : decode cJ3_hasNext 18 = .ok (.iconst 0, 1) := dk_3 (dk_at dksJ3_hasNext_0 18 rfl rfl)
theorem dJ3_hasNext_19 : decode cJ3_hasNext 19 = .ok (.ireturn, 1) := dk_172 (dk_at dksJ3_hasNext_0 19 rfl rfl)
def dkwJ3_next_2 : List UInt8 := [183, 0, 43, 191, 42, 27, 4, 96, 181, 0, 25, 44, 42, 27, 90, 181, 0, 13, 50, 176]
abbrev dktJ3_next_2 : List UInt8 := dkwJ3_next_2 ++ []
def dkwJ3_next_1 : List UInt8 := [183, 0, 36, 191, 42, 180, 0, 1, 180, 0, 37, 77, 27, 44, 190, 161, 0, 11, 187, 0, 41, 89]
abbrev dktJ3_next_1 : List UInt8 := dkwJ3_next_1 ++ dktJ3_next_2
def dkwJ3_next_0 : List UInt8 := [42, 182, 0, 31, 42, 180, 0, 25, 60, 27, 42, 180, 0, 1, 180, 0, 28, 161, 0, 11, 187, 0, 34, 89]
abbrev dktJ3_next_0 : List UInt8 := dkwJ3_next_0 ++ dktJ3_next_1
theorem dksJ3_next_0 : cJ3_next.data.toList.drop 0 = dktJ3_next_0 := by decide +kernel
theorem dksJ3_next_1 : cJ3_next.data.toList.drop 24 = dktJ3_next_1 := dk_seg dksJ3_next_0 24 rfl rfl
theorem dksJ3_next_2 : cJ3_next.data.toList.drop 46 = dktJ3_next_2 := dk_seg dksJ3_next_1 22 rfl rfl
theorem dJ3_next_0 : decode cJ3_next 0 = .ok (.aload_n 0, 1) := dk_42 (dk_at dksJ3_next_0 0 rfl rfl)
theorem dJ3_next_1 : decode cJ3_next 1 = .ok (.invokevirtual 31, 3) := dk_182 0 31 (dk_at dksJ3_next_0 1 rfl rfl)
theorem dJ3_next_4 : decode cJ3_next 4 = .ok (.aload_n 0, 1) := dk_42 (dk_at dksJ3_next_0 4 rfl rfl)
theorem dJ3_next_5 : decode cJ3_next 5 = .ok (.getfield 25, 3) := dk_180 0 25 (dk_at dksJ3_next_0 5 rfl rfl)
theorem dJ3_next_8 : decode cJ3_next 8 = .ok (.istore_n 1, 1) := dk_60 (dk_at dksJ3_next_0 8 rfl rfl)
theorem dJ3_next_9 : decode cJ3_next 9 = .ok (.iload_n 1, 1) := dk_27 (dk_at dksJ3_next_0 9 rfl rfl)
theorem dJ3_next_10 : decode cJ3_next 10 = .ok (.aload_n 0, 1) := dk_42 (dk_at dksJ3_next_0 10 rfl rfl)
theorem dJ3_next_11 : decode cJ3_next 11 = .ok (.getfield 1, 3) := dk_180 0 1 (dk_at dksJ3_next_0 11 rfl rfl)
theorem dJ3_next_14 : decode cJ3_next 14 = .ok (.getfield 28, 3) := dk_180 0 28 (dk_at dksJ3_next_0 14 rfl rfl)
theorem dJ3_next_17 : decode cJ3_next 17 = .ok (.if_icmp .lt 11, 3) := dk_161 0 11 (dk_at dksJ3_next_0 17 rfl rfl)
theorem dJ3_next_20 : decode cJ3_next 20 = .ok (.new 34, 3) := dk_187 0 34 (dk_at dksJ3_next_0 20 rfl rfl)
theorem dJ3_next_23 : decode cJ3_next 23 = .ok (.dup, 1) := dk_89 (dk_at dksJ3_next_0 23 rfl rfl)
theorem dJ3_next_24 : decode cJ3_next 24 = .ok (.invokespecial 36, 3) := dk_183 0 36 (dk_at dksJ3_next_1 0 rfl rfl)
theorem dJ3_next_27 : decode cJ3_next 27 = .ok (.athrow, 1) := dk_191 (dk_at dksJ3_next_1 3 rfl rfl)
theorem dJ3_next_28 : decode cJ3_next 28 = .ok (.aload_n 0, 1) := dk_42 (dk_at dksJ3_next_1 4 rfl rfl)
theorem dJ3_next_29 : decode cJ3_next 29 = .ok (.getfield 1, 3) := dk_180 0 1 (dk_at dksJ3_next_1 5 rfl rfl)
theorem dJ3_next_32 : decode cJ3_next 32 = .ok (.getfield 37, 3) := dk_180 0 37 (dk_at dksJ3_next_1 8 rfl rfl)
theorem dJ3_next_35 : decode cJ3_next 35 = .ok (.astore_n 2, 1) := dk_77 (dk_at dksJ3_next_1 11 rfl rfl)
theorem dJ3_next_36 : decode cJ3_next 36 = .ok (.iload_n 1, 1) := dk_27 (dk_at dksJ3_next_1 12 rfl rfl)
theorem dJ3_next_37 : decode cJ3_next 37 = .ok (.aload_n 2, 1) := dk_44 (dk_at dksJ3_next_1 13 rfl rfl)
theorem dJ3_next_38 : decode cJ3_next 38 = .ok (.arraylength, 1) := dk_190 (dk_at dksJ3_next_1 14 rfl rfl)
theorem dJ3_next_39 : decode cJ3_next 39 = .ok (.if_icmp .lt 11, 3) := dk_161 0 11 (dk_at dksJ3_next_1 15 rfl rfl)
theorem dJ3_next_42 : decode cJ3_next 42 = .ok (.new 41, 3) := dk_187 0 41 (dk_at dksJ3_next_1 18 rfl rfl)
theorem dJ3_next_45 : decode cJ3_next 45 = .ok (.dup, 1) := dk_89 (dk_at dksJ3_next_1 21 rfl rfl)
theorem dJ3_next_46 : decode cJ3_next 46 = .ok (.invokespecial 43, 3) := dk_183 0 43 (dk_at dksJ3_next_2 0 rfl rfl)
theorem dJ3_next_49 : decode cJ3_next 49 = .ok (.athrow, 1) := dk_191 (dk_at dksJ3_next_2 3 rfl rfl)
theorem dJ3_next_50 : decode cJ3_next 50 = .ok (.aload_n 0, 1) := dk_42 (dk_at dksJ3_next_2 4 rfl rfl)
theorem dJ3_next_51 : decode cJ3_next 51 = .ok (.iload_n 1, 1) := dk_27 (dk_at dksJ3_next_2 5 rfl rfl)
theorem dJ3_next_52 : decode cJ3_next 52 = .ok (.iconst 1, 1) := dk_4 (dk_at dksJ3_next_2 6 rfl rfl)
theorem dJ3_next_53 : decode cJ3_next 53 = .ok (.iadd, 1) := dk_96 (dk_at dksJ3_next_2 7 rfl rfl)
theorem dJ3_next_54 : decode cJ3_next 54 = .ok (.putfield 25, 3) := dk_181 0 25 (dk_at dksJ3_next_2 8 rfl rfl)
theorem dJ3_next_57 : decode cJ3_next 57 = .ok (.aload_n 2, 1) := dk_44 (dk_at dksJ3_next_2 11 rfl rfl)
theorem dJ3_next_58 : decode cJ3_next 58 = .ok (.aload_n 0, 1) := dk_42 (dk_at dksJ3_next_2 12 rfl rfl)
theorem dJ3_next_59 : decode cJ3_next 59 = .ok (.iload_n 1, 1) := dk_27 (dk_at dksJ3_next_2 13 rfl rfl)
theorem dJ3_next_60 : decode cJ3_next 60 = .ok (.dup_x1, 1) := dk_90 (dk_at dksJ3_next_2 14 rfl rfl)
theorem dJ3_next_61 : decode cJ3_next 61 = .ok (.putfield 13, 3) := dk_181 0 13 (dk_at dksJ3_next_2 15 rfl rfl)
theorem dJ3_next_64 : decode cJ3_next 64 = .ok (.aaload, 1) := dk_50 (dk_at dksJ3_next_2 18 rfl rfl)
theorem dJ3_next_65 : decode cJ3_next 65 = .ok (.areturn, 1) := dk_176 (dk_at dksJ3_next_2 19 rfl rfl)
def dkwJ3_checkForComodification_0 : List UInt8 := [42, 180, 0, 1, 180, 0, 17, 42, 180, 0, 22, 159, 0, 11, 187, 0, 41, 89, 183, 0, 43, 191, 177]
abbrev dktJ3_checkForComodification_0 : List UInt8 := dkwJ3_checkForComodification_0 ++ []
theorem dksJ3_checkForComodification_0 : cJ3_checkForComodification.data.toList.drop 0 = dktJ3_checkForComodification_0 := by decide +kernel
theorem dJ3_checkForComodification_0 : decode cJ3_checkForComodification 0 = .ok (.aload_n 0, 1) := dk_42 (dk_at dksJ3_checkForComodification_0 0 rfl rfl)
theorem dJ3_checkForComodification_1 : decode cJ3_checkForComodification 1 = .ok (.getfield 1, 3) := dk_180 0 1 (dk_at dksJ3_checkForComodification_0 1 rfl rfl)
theorem dJ3_checkForComodification_4 : decode cJ3_checkForComodification 4 = .ok (.getfield 17, 3) := dk_180 0 17 (dk_at dksJ3_checkForComodification_0 4 rfl rfl)
theorem dJ3_checkForComodification_7 : decode cJ3_checkForComodification 7 = .ok (.aload_n 0, 1) := dk_42 (dk_at dksJ3_checkForComodification_0 7 rfl rfl)
theorem dJ3_checkForComodification_8 : decode cJ3_checkForComodification 8 = .ok (.getfield 22, 3) := dk_180 0 22 (dk_at dksJ3_checkForComodification_0 8 rfl rfl)
theorem dJ3_checkForComodification_11 : decode cJ3_checkForComodification 11 = .ok (.if_icmp .eq 11, 3) := dk_159 0 11 (dk_at dksJ3_checkForComodification_0 11 rfl rfl)
theorem dJ3_checkForComodification_14 : decode cJ3_checkForComodification 14 = .ok (.new 41, 3) := dk_187 0 41 (dk_at dksJ3_checkForComodification_0 14 rfl rfl)
theorem dJ3_checkForComodification_17 : decode cJ3_checkForComodification 17 = .ok (.dup, 1) := dk_89 (dk_at dksJ3_checkForComodification_0 17 rfl rfl)
theorem dJ3_checkForComodification_18 : decode cJ3_checkForComodification 18 = .ok (.invokespecial 43, 3) := dk_183 0 43 (dk_at dksJ3_checkForComodification_0 18 rfl rfl)
theorem dJ3_checkForComodification_21 : decode cJ3_checkForComodification 21 = .ok (.athrow, 1) := dk_191 (dk_at dksJ3_checkForComodification_0 21 rfl rfl)
theorem dJ3_checkForComodification_22 : decode cJ3_checkForComodification 22 = .ok (.return_, 1) := dk_177 (dk_at dksJ3_checkForComodification_0 22 rfl rfl)
def dkwJ4_init_1 : List UInt8 := [182, 0, 27, 87, 177]
abbrev dktJ4_init_1 : List UInt8 := dkwJ4_init_1 ++ []
def dkwJ4_init_0 : List UInt8 := [42, 183, 0, 1, 42, 42, 181, 0, 7, 42, 178, 0, 13, 181, 0, 17, 42, 178, 0, 20, 181, 0, 24, 42]
abbrev dktJ4_init_0 : List UInt8 := dkwJ4_init_0 ++ dktJ4_init_1
theorem dksJ4_init_0 : cJ4_init.data.toList.drop 0 = dktJ4_init_0 := by decide +kernel
theorem dksJ4_init_1 : cJ4_init.data.toList.drop 24 = dktJ4_init_1 := dk_seg dksJ4_init_0 24 rfl rfl
theorem dJ4_init_0 : decode cJ4_init 0 = .ok (.aload_n 0, 1) := dk_42 (dk_at dksJ4_init_0 0 rfl rfl)
theorem dJ4_init_1 : decode cJ4_init 1 = .ok (.invokespecial 1, 3) := dk_183 0 1 (dk_at dksJ4_init_0 1 rfl rfl)
theorem dJ4_init_4 : decode cJ4_init 4 = .ok (.aload_n 0, 1) := dk_42 (dk_at dksJ4_init_0 4 rfl rfl)
theorem dJ4_init_5 : decode cJ4_init 5 = .ok (.aload_n 0, 1) := dk_42 (dk_at dksJ4_init_0 5 rfl rfl)
theorem dJ4_init_6 : decode cJ4_init 6 = .ok (.putfield 7, 3) := dk_181 0 7 (dk_at dksJ4_init_0 6 rfl rfl)
theorem dJ4_init_9 : decode cJ4_init 9 = .ok (.aload_n 0, 1) := dk_42 (dk_at dksJ4_init_0 9 rfl rfl)
theorem dJ4_init_10 : decode cJ4_init 10 = .ok (.getstatic 13, 3) := dk_178 0 13 (dk_at dksJ4_init_0 10 rfl rfl)
theorem dJ4_init_13 : decode cJ4_init 13 = .ok (.putfield 17, 3) := dk_181 0 17 (dk_at dksJ4_init_0 13 rfl rfl)
theorem dJ4_init_16 : decode cJ4_init 16 = .ok (.aload_n 0, 1) := dk_42 (dk_at dksJ4_init_0 16 rfl rfl)
theorem dJ4_init_17 : decode cJ4_init 17 = .ok (.getstatic 20, 3) := dk_178 0 20 (dk_at dksJ4_init_0 17 rfl rfl)
theorem dJ4_init_20 : decode cJ4_init 20 = .ok (.putfield 24, 3) := dk_181 0 24 (dk_at dksJ4_init_0 20 rfl rfl)
theorem dJ4_init_23 : decode cJ4_init 23 = .ok (.aload_n 0, 1) := dk_42 (dk_at dksJ4_init_0 23 rfl rfl)
theorem dJ4_init_24 : decode cJ4_init 24 = .ok (.invokevirtual 27, 3) := dk_182 0 27 (dk_at dksJ4_init_1 0 rfl rfl)
theorem dJ4_init_27 : decode cJ4_init 27 = .ok (.pop, 1) := dk_87 (dk_at dksJ4_init_1 3 rfl rfl)
theorem dJ4_init_28 : decode cJ4_init 28 = .ok (.return_, 1) := dk_177 (dk_at dksJ4_init_1 4 rfl rfl)
def dkwJ4_init_2_1 : List UInt8 := [182, 0, 27, 87, 42, 43, 181, 0, 31, 177]
abbrev dktJ4_init_2_1 : List UInt8 := dkwJ4_init_2_1 ++ []
def dkwJ4_init_2_0 : List UInt8 := [42, 183, 0, 1, 42, 42, 181, 0, 7, 42, 178, 0, 13, 181, 0, 17, 42, 178, 0, 20, 181, 0, 24, 42]
abbrev dktJ4_init_2_0 : List UInt8 := dkwJ4_init_2_0 ++ dktJ4_init_2_1
theorem dksJ4_init_2_0 : cJ4_init_2.data.toList.drop 0 = dktJ4_init_2_0 := by decide +kernel
theorem dksJ4_init_2_1 : cJ4_init_2.data.toList.drop 24 = dktJ4_init_2_1 := dk_seg dksJ4_init_2_0 24 rfl rfl
theorem dJ4_init_2_0 : decode cJ4_init_2 0 = .ok (.aload_n 0, 1) := dk_42 (dk_at dksJ4_init_2_0 0 rfl rfl)
theorem dJ4_init_2_1 : decode cJ4_init_2 1 = .ok (.invokespecial 1, 3) := dk_183 0 1 (dk_at dksJ4_init_2_0 1 rfl rfl)
theorem dJ4_init_2_4 : decode cJ4_init_2 4 = .ok (.aload_n 0, 1) := dk_42 (dk_at dksJ4_init_2_0 4 rfl rfl)
theorem dJ4_init_2_5 : decode cJ4_init_2 5 = .ok (.aload_n 0, 1) := dk_42 (dk_at dksJ4_init_2_0 5 rfl rfl)
theorem dJ4_init_2_6 : decode cJ4_init_2 6 = .ok (.putfield 7, 3) := dk_181 0 7 (dk_at dksJ4_init_2_0 6 rfl rfl)
theorem dJ4_init_2_9 : decode cJ4_init_2 9 = .ok (.aload_n 0, 1) := dk_42 (dk_at dksJ4_init_2_0 9 rfl rfl)
theorem dJ4_init_2_10 : decode cJ4_init_2 10 = .ok (.getstatic 13, 3) := dk_178 0 13 (dk_at dksJ4_init_2_0 10 rfl rfl)
theorem dJ4_init_2_13 : decode cJ4_init_2 13 = .ok (.putfield 17, 3) := dk_181 0 17 (dk_at dksJ4_init_2_0 13 rfl rfl)
theorem dJ4_init_2_16 : decode cJ4_init_2 16 = .ok (.aload_n 0, 1) := dk_42 (dk_at dksJ4_init_2_0 16 rfl rfl)
theorem dJ4_init_2_17 : decode cJ4_init_2 17 = .ok (.getstatic 20, 3) := dk_178 0 20 (dk_at dksJ4_init_2_0 17 rfl rfl)
theorem dJ4_init_2_20 : decode cJ4_init_2 20 = .ok (.putfield 24, 3) := dk_181 0 24 (dk_at dksJ4_init_2_0 20 rfl rfl)
theorem dJ4_init_2_23 : decode cJ4_init_2 23 = .ok (.aload_n 0, 1) := dk_42 (dk_at dksJ4_init_2_0 23 rfl rfl)
theorem dJ4_init_2_24 : decode cJ4_init_2 24 = .ok (.invokevirtual 27, 3) := dk_182 0 27 (dk_at dksJ4_init_2_1 0 rfl rfl)
theorem dJ4_init_2_27 : decode cJ4_init_2 27 = .ok (.pop, 1) := dk_87 (dk_at dksJ4_init_2_1 3 rfl rfl)
theorem dJ4_init_2_28 : decode cJ4_init_2 28 = .ok (.aload_n 0, 1) := dk_42 (dk_at dksJ4_init_2_1 4 rfl rfl)
theorem dJ4_init_2_29 : decode cJ4_init_2 29 = .ok (.aload_n 1, 1) := dk_43 (dk_at dksJ4_init_2_1 5 rfl rfl)
theorem dJ4_init_2_30 : decode cJ4_init_2 30 = .ok (.putfield 31, 3) := dk_181 0 31 (dk_at dksJ4_init_2_1 6 rfl rfl)
theorem dJ4_init_2_33 : decode cJ4_init_2 33 = .ok (.return_, 1) := dk_177 (dk_at dksJ4_init_2_1 9 rfl rfl)
theorem dJ5_init_0 : decode cJ5_init 0 = .ok (.aload_n 0, 1) := by decide +kernel
theorem dJ5_init_1 : decode cJ5_init 1 = .ok (.invokespecial 1, 3) := by decide +kernel
theorem dJ5_init_4 : decode cJ5_init 4 = .ok (.return_, 1) := by decide +kernel
def dkwJ5_init_2_0 : List UInt8 := [42, 43, 183, 0, 7, 177]
abbrev dktJ5_init_2_0 : List UInt8 := dkwJ5_init_2_0 ++ []
theorem dksJ5_init_2_0 : cJ5_init_2.data.toList.drop 0 = dktJ5_init_2_0 := by decide +kernel
theorem dJ5_init_2_0 : decode cJ5_init_2 0 = .ok (.aload_n 0, 1) := dk_42 (dk_at dksJ5_init_2_0 0 rfl rfl)
theorem dJ5_init_2_1 : decode cJ5_init_2 1 = .ok (.aload_n 1, 1) := dk_43 (dk_at dksJ5_init_2_0 1 rfl rfl)
theorem dJ5_init_2_2 : decode cJ5_init_2 2 = .ok (.invokespecial 7, 3) := dk_183 0 7 (dk_at dksJ5_init_2_0 2 rfl rfl)
theorem dJ5_init_2_5 : decode cJ5_init_2 5 = .ok (.return_, 1) := dk_177 (dk_at dksJ5_init_2_0 5 rfl rfl)
theorem dJ6_init_0 : decode cJ6_init 0 = .ok (.aload_n 0, 1) := by decide +kernel
theorem dJ6_init_1 : decode cJ6_init 1 = .ok (.invokespecial 1, 3) := by decide +kernel
theorem dJ6_init_4 : decode cJ6_init 4 = .ok (.return_, 1) := by decide +kernel
def dkwJ6_init_2_0 : List UInt8 := [42, 43, 183, 0, 7, 177]
abbrev dktJ6_init_2_0 : List UInt8 := dkwJ6_init_2_0 ++ []
theorem dksJ6_init_2_0 : cJ6_init_2.data.toList.drop 0 = dktJ6_init_2_0 := by decide +kernel
theorem dJ6_init_2_0 : decode cJ6_init_2 0 = .ok (.aload_n 0, 1) := dk_42 (dk_at dksJ6_init_2_0 0 rfl rfl)
theorem dJ6_init_2_1 : decode cJ6_init_2 1 = .ok (.aload_n 1, 1) := dk_43 (dk_at dksJ6_init_2_0 1 rfl rfl)
theorem dJ6_init_2_2 : decode cJ6_init_2 2 = .ok (.invokespecial 7, 3) := dk_183 0 7 (dk_at dksJ6_init_2_0 2 rfl rfl)
theorem dJ6_init_2_5 : decode cJ6_init_2 5 = .ok (.return_, 1) := dk_177 (dk_at dksJ6_init_2_0 5 rfl rfl)
theorem dJ7_init_0 : decode cJ7_init 0 = .ok (.aload_n 0, 1) := by decide +kernel
theorem dJ7_init_1 : decode cJ7_init 1 = .ok (.invokespecial 1, 3) := by decide +kernel
theorem dJ7_init_4 : decode cJ7_init 4 = .ok (.return_, 1) := by decide +kernel
def dkwJ8_init_1 : List UInt8 := [167, 0, 16, 42, 27, 184, 0, 26, 181, 0, 15, 42, 4, 181, 0, 22, 177]
abbrev dktJ8_init_1 : List UInt8 := dkwJ8_init_1 ++ []
def dkwJ8_init_0 : List UInt8 := [42, 183, 0, 3, 178, 0, 18, 153, 0, 18, 42, 27, 188, 8, 181, 0, 15, 42, 3, 181, 0, 22]
abbrev dktJ8_init_0 : List UInt8 := dkwJ8_init_0 ++ dktJ8_init_1
theorem dksJ8_init_0 : cJ8_init.data.toList.drop 0 = dktJ8_init_0 := by decide +kernel
theorem dksJ8_init_1 : cJ8_init.data.toList.drop 22 = dktJ8_init_1 := dk_seg dksJ8_init_0 22 rfl rfl
theorem dJ8_init_0 : decode cJ8_init 0 = .ok (.aload_n 0, 1) := dk_42 (dk_at dksJ8_init_0 0 rfl rfl)
theorem dJ8_init_1 : decode cJ8_init 1 = .ok (.invokespecial 3, 3) := dk_183 0 3 (dk_at dksJ8_init_0 1 rfl rfl)
theorem dJ8_init_4 : decode cJ8_init 4 = .ok (.getstatic 18, 3) := dk_178 0 18 (dk_at dksJ8_init_0 4 rfl rfl)
theorem dJ8_init_7 : decode cJ8_init 7 = .ok (.ifCond .eq 18, 3) := dk_153 0 18 (dk_at dksJ8_init_0 7 rfl rfl)
theorem dJ8_init_10 : decode cJ8_init 10 = .ok (.aload_n 0, 1) := dk_42 (dk_at dksJ8_init_0 10 rfl rfl)
theorem dJ8_init_11 : decode cJ8_init 11 = .ok (.iload_n 1, 1) := dk_27 (dk_at dksJ8_init_0 11 rfl rfl)
theorem dJ8_init_12 : decode cJ8_init 12 = .ok (.newarray .byte, 2) := dk_188_8 (dk_at dksJ8_init_0 12 rfl rfl)
theorem dJ8_init_14 : decode cJ8_init 14 = .ok (.putfield 15, 3) := dk_181 0 15 (dk_at dksJ8_init_0 14 rfl rfl)
theorem dJ8_init_17 : decode cJ8_init 17 = .ok (.aload_n 0, 1) := dk_42 (dk_at dksJ8_init_0 17 rfl rfl)
theorem dJ8_init_18 : decode cJ8_init 18 = .ok (.iconst 0, 1) := dk_3 (dk_at dksJ8_init_0 18 rfl rfl)
theorem dJ8_init_19 : decode cJ8_init 19 = .ok (.putfield 22, 3) := dk_181 0 22 (dk_at dksJ8_init_0 19 rfl rfl)
theorem dJ8_init_22 : decode cJ8_init 22 = .ok (.goto 16, 3) := dk_167 0 16 (dk_at dksJ8_init_1 0 rfl rfl)
theorem dJ8_init_25 : decode cJ8_init 25 = .ok (.aload_n 0, 1) := dk_42 (dk_at dksJ8_init_1 3 rfl rfl)
theorem dJ8_init_26 : decode cJ8_init 26 = .ok (.iload_n 1, 1) := dk_27 (dk_at dksJ8_init_1 4 rfl rfl)
theorem dJ8_init_27 : decode cJ8_init 27 = .ok (.invokestatic 26, 3) := dk_184 0 26 (dk_at dksJ8_init_1 5 rfl rfl)
theorem dJ8_init_30 : decode cJ8_init 30 = .ok (.putfield 15, 3) := dk_181 0 15 (dk_at dksJ8_init_1 8 rfl rfl)
theorem dJ8_init_33 : decode cJ8_init 33 = .ok (.aload_n 0, 1) := dk_42 (dk_at dksJ8_init_1 11 rfl rfl)
theorem dJ8_init_34 : decode cJ8_init 34 = .ok (.iconst 1, 1) := dk_4 (dk_at dksJ8_init_1 12 rfl rfl)
theorem dJ8_init_35 : decode cJ8_init 35 = .ok (.putfield 22, 3) := dk_181 0 22 (dk_at dksJ8_init_1 13 rfl rfl)
theorem dJ8_init_38 : decode cJ8_init 38 = .ok (.return_, 1) := dk_177 (dk_at dksJ8_init_1 16 rfl rfl)
def dkwJ8_append_2 : List UInt8 := [42, 29, 181, 0, 79, 42, 176]
abbrev dktJ8_append_2 : List UInt8 := dkwJ8_append_2 ++ []
def dkwJ8_append_1 : List UInt8 := [27, 29, 42, 180, 0, 15, 184, 0, 248, 87, 167, 0, 14, 27, 28, 29, 42, 180, 0, 15, 184, 0, 251, 87]
abbrev dktJ8_append_1 : List UInt8 := dkwJ8_append_1 ++ dktJ8_append_2
def dkwJ8_append_0 : List UInt8 := [42, 180, 0, 79, 61, 28, 27, 184, 0, 245, 96, 62, 42, 29, 182, 0, 100, 42, 182, 0, 83, 153, 0, 16]
abbrev dktJ8_append_0 : List UInt8 := dkwJ8_append_0 ++ dktJ8_append_1
theorem dksJ8_append_0 : cJ8_append.data.toList.drop 0 = dktJ8_append_0 := by decide +kernel
theorem dksJ8_append_1 : cJ8_append.data.toList.drop 24 = dktJ8_append_1 := dk_seg dksJ8_append_0 24 rfl rfl
theorem dksJ8_append_2 : cJ8_append.data.toList.drop 48 = dktJ8_append_2 := dk_seg dksJ8_append_1 24 rfl rfl
theorem dJ8_append_0 : decode cJ8_append 0 = .ok (.aload_n 0, 1) := dk_42 (dk_at dksJ8_append_0 0 rfl rfl)
theorem dJ8_append_1 : decode cJ8_append 1 = .ok (.getfield 79, 3) := dk_180 0 79 (dk_at dksJ8_append_0 1 rfl rfl)
theorem dJ8_append_4 : decode cJ8_append 4 = .ok (.istore_n 2, 1) := dk_61 (dk_at dksJ8_append_0 4 rfl rfl)
theorem dJ8_append_5 : decode cJ8_append 5 = .ok (.iload_n 2, 1) := dk_28 (dk_at dksJ8_append_0 5 rfl rfl)
theorem dJ8_append_6 : decode cJ8_append 6 = .ok (.iload_n 1, 1) := dk_27 (dk_at dksJ8_append_0 6 rfl rfl)
theorem dJ8_append_7 : decode cJ8_append 7 = .ok (.invokestatic 245, 3) := dk_184 0 245 (dk_at dksJ8_append_0 7 rfl rfl)
theorem dJ8_append_10 : decode cJ8_append 10 = .ok (.iadd, 1) := dk_96 (dk_at dksJ8_append_0 10 rfl rfl)
theorem dJ8_append_11 : decode cJ8_append 11 = .ok (.istore_n 3, 1) := dk_62 (dk_at dksJ8_append_0 11 rfl rfl)
theorem dJ8_append_12 : decode cJ8_append 12 = .ok (.aload_n 0, 1) := dk_42 (dk_at dksJ8_append_0 12 rfl rfl)
theorem dJ8_append_13 : decode cJ8_append 13 = .ok (.iload_n 3, 1) := dk_29 (dk_at dksJ8_append_0 13 rfl rfl)
theorem dJ8_append_14 : decode cJ8_append 14 = .ok (.invokevirtual 100, 3) := dk_182 0 100 (dk_at dksJ8_append_0 14 rfl rfl)
theorem dJ8_append_17 : decode cJ8_append 17 = .ok (.aload_n 0, 1) := dk_42 (dk_at dksJ8_append_0 17 rfl rfl)
theorem dJ8_append_18 : decode cJ8_append 18 = .ok (.invokevirtual 83, 3) := dk_182 0 83 (dk_at dksJ8_append_0 18 rfl rfl)
theorem dJ8_append_21 : decode cJ8_append 21 = .ok (.ifCond .eq 16, 3) := dk_153 0 16 (dk_at dksJ8_append_0 21 rfl rfl)
theorem dJ8_append_24 : decode cJ8_append 24 = .ok (.iload_n 1, 1) := dk_27 (dk_at dksJ8_append_1 0 rfl rfl)
theorem dJ8_append_25 : decode cJ8_append 25 = .ok (.iload_n 3, 1) := dk_29 (dk_at dksJ8_append_1 1 rfl rfl)
theorem dJ8_append_26 : decode cJ8_append 26 = .ok (.aload_n 0, 1) := dk_42 (dk_at dksJ8_append_1 2 rfl rfl)
theorem dJ8_append_27 : decode cJ8_append 27 = .ok (.getfield 15, 3) := dk_180 0 15 (dk_at dksJ8_append_1 3 rfl rfl)
theorem dJ8_append_30 : decode cJ8_append 30 = .ok (.invokestatic 248, 3) := dk_184 0 248 (dk_at dksJ8_append_1 6 rfl rfl)
theorem dJ8_append_33 : decode cJ8_append 33 = .ok (.pop, 1) := dk_87 (dk_at dksJ8_append_1 9 rfl rfl)
theorem dJ8_append_34 : decode cJ8_append 34 = .ok (.goto 14, 3) := dk_167 0 14 (dk_at dksJ8_append_1 10 rfl rfl)
theorem dJ8_append_37 : decode cJ8_append 37 = .ok (.iload_n 1, 1) := dk_27 (dk_at dksJ8_append_1 13 rfl rfl)
theorem dJ8_append_38 : decode cJ8_append 38 = .ok (.iload_n 2, 1) := dk_28 (dk_at dksJ8_append_1 14 rfl rfl)
theorem dJ8_append_39 : decode cJ8_append 39 = .ok (.iload_n 3, 1) := dk_29 (dk_at dksJ8_append_1 15 rfl rfl)
theorem dJ8_append_40 : decode cJ8_append 40 = .ok (.aload_n 0, 1) := dk_42 (dk_at dksJ8_append_1 16 rfl rfl)
theorem dJ8_append_41 : decode cJ8_append 41 = .ok (.getfield 15, 3) := dk_180 0 15 (dk_at dksJ8_append_1 17 rfl rfl)
theorem dJ8_append_44 : decode cJ8_append 44 = .ok (.invokestatic 251, 3) := dk_184 0 251 (dk_at dksJ8_append_1 20 rfl rfl)
theorem dJ8_append_47 : decode cJ8_append 47 = .ok (.pop, 1) := dk_87 (dk_at dksJ8_append_1 23 rfl rfl)
theorem dJ8_append_48 : decode cJ8_append 48 = .ok (.aload_n 0, 1) := dk_42 (dk_at dksJ8_append_2 0 rfl rfl)
theorem dJ8_append_49 : decode cJ8_append 49 = .ok (.iload_n 3, 1) := dk_29 (dk_at dksJ8_append_2 1 rfl rfl)
theorem dJ8_append_50 : decode cJ8_append 50 = .ok (.putfield 79, 3) := dk_181 0 79 (dk_at dksJ8_append_2 2 rfl rfl)
theorem dJ8_append_53 : decode cJ8_append 53 = .ok (.aload_n 0, 1) := dk_42 (dk_at dksJ8_append_2 5 rfl rfl)
theorem dJ8_append_54 : decode cJ8_append 54 = .ok (.areturn, 1) := dk_176 (dk_at dksJ8_append_2 6 rfl rfl)
def dkwJ8_ensureCapacityInternal_1 : List UInt8 := [182, 0, 104, 42, 180, 0, 22, 120, 184, 0, 108, 181, 0, 15, 177]
abbrev dktJ8_ensureCapacityInternal_1 : List UInt8 := dkwJ8_ensureCapacityInternal_1 ++ []
def dkwJ8_ensureCapacityInternal_0 : List UInt8 := [42, 180, 0, 15, 190, 42, 180, 0, 22, 122, 61, 27, 28, 100, 158, 0, 24, 42, 42, 180, 0, 15, 42, 27]
abbrev dktJ8_ensureCapacityInternal_0 : List UInt8 := dkwJ8_ensureCapacityInternal_0 ++ dktJ8_ensureCapacityInternal_1
theorem dksJ8_ensureCapacityInternal_0 : cJ8_ensureCapacityInternal.data.toList.drop 0 = dktJ8_ensureCapacityInternal_0 := by decide +kernel
theorem dksJ8_ensureCapacityInternal_1 : cJ8_ensureCapacityInternal.data.toList.drop 24 = dktJ8_ensureCapacityInternal_1 := dk_seg dksJ8_ensureCapacityInternal_0 24 rfl rfl
theorem dJ8_ensureCapacityInternal_0 : decode cJ8_ensureCapacityInternal 0 = .ok (.aload_n 0, 1) := dk_42 (dk_at dksJ8_ensureCapacityInternal_0 0 rfl rfl)
theorem dJ8_ensureCapacityInternal_1 : decode cJ8_ensureCapacityInternal 1 = .ok (.getfield 15, 3) := dk_180 0 15 (dk_at dksJ8_ensureCapacityInternal_0 1 rfl rfl)
theorem dJ8_ensureCapacityInternal_4 : decode cJ8_ensureCapacityInternal 4 = .ok (.arraylength, 1) := dk_190 (dk_at dksJ8_ensureCapacityInternal_0 4 rfl rfl)
theorem dJ8_ensureCapacityInternal_5 : decode cJ8_ensureCapacityInternal 5 = .ok (.aload_n 0, 1) := dk_42 (dk_at dksJ8_ensureCapacityInternal_0 5 rfl rfl)
theorem dJ8_ensureCapacityInternal_6 : decode cJ8_ensureCapacityInternal 6 = .ok (.getfield 22, 3) := dk_180 0 22 (dk_at dksJ8_ensureCapacityInternal_0 6 rfl rfl)
theorem dJ8_ensureCapacityInternal_9 : decode cJ8_ensureCapacityInternal 9 = .ok (.ishr, 1) := dk_122 (dk_at dksJ8_ensureCapacityInternal_0 9 rfl rfl)
theorem dJ8_ensureCapacityInternal_10 : decode cJ8_ensureCapacityInternal 10 = .ok (.istore_n 2, 1) := dk_61 (dk_at dksJ8_ensureCapacityInternal_0 10 rfl rfl)
theorem dJ8_ensureCapacityInternal_11 : decode cJ8_ensureCapacityInternal 11 = .ok (.iload_n 1, 1) := dk_27 (dk_at dksJ8_ensureCapacityInternal_0 11 rfl rfl)
theorem dJ8_ensureCapacityInternal_12 : decode cJ8_ensureCapacityInternal 12 = .ok (.iload_n 2, 1) := dk_28 (dk_at dksJ8_ensureCapacityInternal_0 12 rfl rfl)
theorem dJ8_ensureCapacityInternal_13 : decode cJ8_ensureCapacityInternal 13 = .ok (.isub, 1) := dk_100 (dk_at dksJ8_ensureCapacityInternal_0 13 rfl rfl)
theorem dJ8_ensureCapacityInternal_14 : decode cJ8_ensureCapacityInternal 14 = .ok (.ifCond .le 24, 3) := dk_158 0 24 (dk_at dksJ8_ensureCapacityInternal_0 14 rfl rfl)
theorem dJ8_ensureCapacityInternal_17 : decode cJ8_ensureCapacityInternal 17 = .ok (.aload_n 0, 1) := dk_42 (dk_at dksJ8_ensureCapacityInternal_0 17 rfl rfl)
theorem dJ8_ensureCapacityInternal_18 : decode cJ8_ensureCapacityInternal 18 = .ok (.aload_n 0, 1) := dk_42 (dk_at dksJ8_ensureCapacityInternal_0 18 rfl rfl)
theorem dJ8_ensureCapacityInternal_19 : decode cJ8_ensureCapacityInternal 19 = .ok (.getfield 15, 3) := dk_180 0 15 (dk_at dksJ8_ensureCapacityInternal_0 19 rfl rfl)
theorem dJ8_ensureCapacityInternal_22 : decode cJ8_ensureCapacityInternal 22 = .ok (.aload_n 0, 1) := dk_42 (dk_at dksJ8_ensureCapacityInternal_0 22 rfl rfl)
theorem dJ8_ensureCapacityInternal_23 : decode cJ8_ensureCapacityInternal 23 = .ok (.iload_n 1, 1) := dk_27 (dk_at dksJ8_ensureCapacityInternal_0 23 rfl rfl)
theorem dJ8_ensureCapacityInternal_24 : decode cJ8_ensureCapacityInternal 24 = .ok (.invokevirtual 104, 3) := dk_182 0 104 (dk_at dksJ8_ensureCapacityInternal_1 0 rfl rfl)
theorem dJ8_ensureCapacityInternal_27 : decode cJ8_ensureCapacityInternal 27 = .ok (.aload_n 0, 1) := dk_42 (dk_at dksJ8_ensureCapacityInternal_1 3 rfl rfl)
theorem dJ8_ensureCapacityInternal_28 : decode cJ8_ensureCapacityInternal 28 = .ok (.getfield 22, 3) := dk_180 0 22 (dk_at dksJ8_ensureCapacityInternal_1 4 rfl rfl)
theorem dJ8_ensureCapacityInternal_31 : decode cJ8_ensureCapacityInternal 31 = .ok (.ishl, 1) := dk_120 (dk_at dksJ8_ensureCapacityInternal_1 7 rfl rfl)
theorem dJ8_ensureCapacityInternal_32 : decode cJ8_ensureCapacityInternal 32 = .ok (.invokestatic 108, 3) := dk_184 0 108 (dk_at dksJ8_ensureCapacityInternal_1 8 rfl rfl)
theorem dJ8_ensureCapacityInternal_35 : decode cJ8_ensureCapacityInternal 35 = .ok (.putfield 15, 3) := dk_181 0 15 (dk_at dksJ8_ensureCapacityInternal_1 11 rfl rfl)
theorem dJ8_ensureCapacityInternal_38 : decode cJ8_ensureCapacityInternal 38 = .ok (.return_, 1) := dk_177 (dk_at dksJ8_ensureCapacityInternal_1 14 rfl rfl)
def dkwJ8_newCapacity_2 : List UInt8 := [183, 0, 124, 191, 21, 5, 42, 180, 0, 22, 122, 172]
abbrev dktJ8_newCapacity_2 : List UInt8 := dkwJ8_newCapacity_2 ++ []
def dkwJ8_newCapacity_1 : List UInt8 := [180, 0, 22, 120, 96, 184, 0, 114, 54, 5, 21, 5, 18, 39, 160, 0, 13, 187, 0, 120, 89, 18, 122]
abbrev dktJ8_newCapacity_1 : List UInt8 := dkwJ8_newCapacity_1 ++ dktJ8_newCapacity_2
def dkwJ8_newCapacity_0 : List UInt8 := [42, 180, 0, 15, 190, 61, 27, 42, 180, 0, 22, 120, 62, 29, 28, 100, 54, 4, 28, 21, 4, 28, 5, 42]
abbrev dktJ8_newCapacity_0 : List UInt8 := dkwJ8_newCapacity_0 ++ dktJ8_newCapacity_1
theorem dksJ8_newCapacity_0 : cJ8_newCapacity.data.toList.drop 0 = dktJ8_newCapacity_0 := by decide +kernel
theorem dksJ8_newCapacity_1 : cJ8_newCapacity.data.toList.drop 24 = dktJ8_newCapacity_1 := dk_seg dksJ8_newCapacity_0 24 rfl rfl
theorem dksJ8_newCapacity_2 : cJ8_newCapacity.data.toList.drop 47 = dktJ8_newCapacity_2 := dk_seg dksJ8_newCapacity_1 23 rfl rfl
theorem dJ8_newCapacity_0 : decode cJ8_newCapacity 0 = .ok (.aload_n 0, 1) := dk_42 (dk_at dksJ8_newCapacity_0 0 rfl rfl)
theorem dJ8_newCapacity_1 : decode cJ8_newCapacity 1 = .ok (.getfield 15, 3) := dk_180 0 15 (dk_at dksJ8_newCapacity_0 1 rfl rfl)
theorem dJ8_newCapacity_4 : decode cJ8_newCapacity 4 = .ok (.arraylength, 1) := dk_190 (dk_at dksJ8_newCapacity_0 4 rfl rfl)
theorem dJ8_newCapacity_5 : decode cJ8_newCapacity 5 = .ok (.istore_n 2, 1) := dk_61 (dk_at dksJ8_newCapacity_0 5 rfl rfl)
theorem dJ8_newCapacity_6 : decode cJ8_newCapacity 6 = .ok (.iload_n 1, 1) := dk_27 (dk_at dksJ8_newCapacity_0 6 rfl rfl)
theorem dJ8_newCapacity_7 : decode cJ8_newCapacity 7 = .ok (.aload_n 0, 1) := dk_42 (dk_at dksJ8_newCapacity_0 7 rfl rfl)
theorem dJ8_newCapacity_8 : decode cJ8_newCapacity 8 = .ok (.getfield 22, 3) := dk_180 0 22 (dk_at dksJ8_newCapacity_0 8 rfl rfl)
theorem dJ8_newCapacity_11 : decode cJ8_newCapacity 11 = .ok (.ishl, 1) := dk_120 (dk_at dksJ8_newCapacity_0 11 rfl rfl)
theorem dJ8_newCapacity_12 : decode cJ8_newCapacity 12 = .ok (.istore_n 3, 1) := dk_62 (dk_at dksJ8_newCapacity_0 12 rfl rfl)
theorem dJ8_newCapacity_13 : decode cJ8_newCapacity 13 = .ok (.iload_n 3, 1) := dk_29 (dk_at dksJ8_newCapacity_0 13 rfl rfl)
theorem dJ8_newCapacity_14 : decode cJ8_newCapacity 14 = .ok (.iload_n 2, 1) := dk_28 (dk_at dksJ8_newCapacity_0 14 rfl rfl)
theorem dJ8_newCapacity_15 : decode cJ8_newCapacity 15 = .ok (.isub, 1) := dk_100 (dk_at dksJ8_newCapacity_0 15 rfl rfl)
theorem dJ8_newCapacity_16 : decode cJ8_newCapacity 16 = .ok (.istore 4, 2) := dk_54 4 (dk_at dksJ8_newCapacity_0 16 rfl rfl)
theorem dJ8_newCapacity_18 : decode cJ8_newCapacity 18 = .ok (.iload_n 2, 1) := dk_28 (dk_at dksJ8_newCapacity_0 18 rfl rfl)
theorem dJ8_newCapacity_19 : decode cJ8_newCapacity 19 = .ok (.iload 4, 2) := dk_21 4 (dk_at dksJ8_newCapacity_0 19 rfl rfl)
theorem dJ8_newCapacity_21 : decode cJ8_newCapacity 21 = .ok (.iload_n 2, 1) := dk_28 (dk_at dksJ8_newCapacity_0 21 rfl rfl)
theorem dJ8_newCapacity_22 : decode cJ8_newCapacity 22 = .ok (.iconst 2, 1) := dk_5 (dk_at dksJ8_newCapacity_0 22 rfl rfl)
theorem dJ8_newCapacity_23 : decode cJ8_newCapacity 23 = .ok (.aload_n 0, 1) := dk_42 (dk_at dksJ8_newCapacity_0 23 rfl rfl)
theorem dJ8_newCapacity_24 : decode cJ8_newCapacity 24 = .ok (.getfield 22, 3) := dk_180 0 22 (dk_at dksJ8_newCapacity_1 0 rfl rfl)
theorem dJ8_newCapacity_27 : decode cJ8_newCapacity 27 = .ok (.ishl, 1) := dk_120 (dk_at dksJ8_newCapacity_1 3 rfl rfl)
theorem dJ8_newCapacity_28 : decode cJ8_newCapacity 28 = .ok (.iadd, 1) := dk_96 (dk_at dksJ8_newCapacity_1 4 rfl rfl)
theorem dJ8_newCapacity_29 : decode cJ8_newCapacity 29 = .ok (.invokestatic 114, 3) := dk_184 0 114 (dk_at dksJ8_newCapacity_1 5 rfl rfl)
theorem dJ8_newCapacity_32 : decode cJ8_newCapacity 32 = .ok (.istore 5, 2) := dk_54 5 (dk_at dksJ8_newCapacity_1 8 rfl rfl)
theorem dJ8_newCapacity_34 : decode cJ8_newCapacity 34 = .ok (.iload 5, 2) := dk_21 5 (dk_at dksJ8_newCapacity_1 10 rfl rfl)
theorem dJ8_newCapacity_36 : decode cJ8_newCapacity 36 = .ok (.ldc 39, 2) := dk_18 39 (dk_at dksJ8_newCapacity_1 12 rfl rfl)
theorem dJ8_newCapacity_38 : decode cJ8_newCapacity 38 = .ok (.if_icmp .ne 13, 3) := dk_160 0 13 (dk_at dksJ8_newCapacity_1 14 rfl rfl)
theorem dJ8_newCapacity_41 : decode cJ8_newCapacity 41 = .ok (.new 120, 3) := dk_187 0 120 (dk_at dksJ8_newCapacity_1 17 rfl rfl)
theorem dJ8_newCapacity_44 : decode cJ8_newCapacity 44 = .ok (.dup, 1) := dk_89 (dk_at dksJ8_newCapacity_1 20 rfl rfl)
theorem dJ8_newCapacity_45 : decode cJ8_newCapacity 45 = .ok (.ldc 122, 2) := dk_18 122 (dk_at dksJ8_newCapacity_1 21 rfl rfl)
theorem dJ8_newCapacity_47 : decode cJ8_newCapacity 47 = .ok (.invokespecial 124, 3) := dk_183 0 124 (dk_at dksJ8_newCapacity_2 0 rfl rfl)
theorem dJ8_newCapacity_50 : decode cJ8_newCapacity 50 = .ok (.athrow, 1) := dk_191 (dk_at dksJ8_newCapacity_2 3 rfl rfl)
theorem dJ8_newCapacity_51 : decode cJ8_newCapacity 51 = .ok (.iload 5, 2) := dk_21 5 (dk_at dksJ8_newCapacity_2 4 rfl rfl)
theorem dJ8_newCapacity_53 : decode cJ8_newCapacity 53 = .ok (.aload_n 0, 1) := dk_42 (dk_at dksJ8_newCapacity_2 6 rfl rfl)
theorem dJ8_newCapacity_54 : decode cJ8_newCapacity 54 = .ok (.getfield 22, 3) := dk_180 0 22 (dk_at dksJ8_newCapacity_2 7 rfl rfl)
theorem dJ8_newCapacity_57 : decode cJ8_newCapacity 57 = .ok (.ishr, 1) := dk_122 (dk_at dksJ8_newCapacity_2 10 rfl rfl)
theorem dJ8_newCapacity_58 : decode cJ8_newCapacity 58 = .ok (.ireturn, 1) := dk_172 (dk_at dksJ8_newCapacity_2 11 rfl rfl)
def dkwJ8_isLatin1_0 : List UInt8 := [178, 0, 18, 153, 0, 14, 42, 180, 0, 22, 154, 0, 7, 4, 167, 0, 4, 3, 172]
abbrev dktJ8_isLatin1_0 : List UInt8 := dkwJ8_isLatin1_0 ++ []
theorem dksJ8_isLatin1_0 : cJ8_isLatin1.data.toList.drop 0 = dktJ8_isLatin1_0 := by decide +kernel
theorem dJ8_isLatin1_0 : decode cJ8_isLatin1 0 = .ok (.getstatic 18, 3) := dk_178 0 18 (dk_at dksJ8_isLatin1_0 0 rfl rfl)
theorem dJ8_isLatin1_3 : decode cJ8_isLatin1 3 = .ok (.ifCond .eq 14, 3) := dk_153 0 14 (dk_at dksJ8_isLatin1_0 3 rfl rfl)
theorem dJ8_isLatin1_6 : decode cJ8_isLatin1 6 = .ok (.aload_n 0, 1) := dk_42 (dk_at dksJ8_isLatin1_0 6 rfl rfl)
theorem dJ8_isLatin1_7 : decode cJ8_isLatin1 7 = .ok (.getfield 22, 3) := dk_180 0 22 (dk_at dksJ8_isLatin1_0 7 rfl rfl)
theorem dJ8_isLatin1_10 : decode cJ8_isLatin1 10 = .ok (.ifCond .ne 7, 3) := dk_154 0 7 (dk_at dksJ8_isLatin1_0 10 rfl rfl)
theorem dJ8_isLatin1_13 : decode cJ8_isLatin1 13 = .ok (.iconst 1, 1) := dk_4 (dk_at dksJ8_isLatin1_0 13 rfl rfl)
theorem dJ8_isLatin1_14 : decode cJ8_isLatin1 14 = .ok (.goto 4, 3) := dk_167 0 4 (dk_at dksJ8_isLatin1_0 14 rfl rfl)
theorem dJ8_isLatin1_17 : decode cJ8_isLatin1 17 = .ok (.iconst 0, 1) := dk_3 (dk_at dksJ8_isLatin1_0 17 rfl rfl)
theorem dJ8_isLatin1_18 : decode cJ8_isLatin1 18 = .ok (.ireturn, 1) := dk_172 (dk_at dksJ8_isLatin1_0 18 rfl rfl)
def dkwJ8_append_2_1 : List UInt8 := [42, 42, 180, 0, 79, 43, 182, 0, 208, 42, 89, 180, 0, 79, 28, 96, 181, 0, 79, 42, 176]
abbrev dktJ8_append_2_1 : List UInt8 := dkwJ8_append_2_1 ++ []
def dkwJ8_append_2_0 : List UInt8 := [43, 199, 0, 8, 42, 182, 0, 204, 176, 43, 182, 0, 32, 61, 42, 42, 180, 0, 79, 28, 96, 182, 0, 100]
abbrev dktJ8_append_2_0 : List UInt8 := dkwJ8_append_2_0 ++ dktJ8_append_2_1
theorem dksJ8_append_2_0 : cJ8_append_2.data.toList.drop 0 = dktJ8_append_2_0 := by decide +kernel
theorem dksJ8_append_2_1 : cJ8_append_2.data.toList.drop 24 = dktJ8_append_2_1 := dk_seg dksJ8_append_2_0 24 rfl rfl
theorem dJ8_append_2_0 : decode cJ8_append_2 0 = .ok (.aload_n 1, 1) := dk_43 (dk_at dksJ8_append_2_0 0 rfl rfl)
theorem dJ8_append_2_1 : decode cJ8_append_2 1 = .ok (.ifnonnull 8, 3) := dk_199 0 8 (dk_at dksJ8_append_2_0 1 rfl rfl)
theorem dJ8_append_2_4 : decode cJ8_append_2 4 = .ok (.aload_n 0, 1) := dk_42 (dk_at dksJ8_append_2_0 4 rfl rfl)
theorem dJ8_append_2_5 : decode cJ8_append_2 5 = .ok (.invokevirtual 204, 3) := dk_182 0 204 (dk_at dksJ8_append_2_0 5 rfl rfl)
theorem dJ8_append_2_8 : decode cJ8_append_2 8 = .ok (.areturn, 1) := dk_176 (dk_at dksJ8_append_2_0 8 rfl rfl)
theorem dJ8_append_2_9 : decode cJ8_append_2 9 = .ok (.aload_n 1, 1) := dk_43 (dk_at dksJ8_append_2_0 9 rfl rfl)
theorem dJ8_append_2_10 : decode cJ8_append_2 10 = .ok (.invokevirtual 32, 3) := dk_182 0 32 (dk_at dksJ8_append_2_0 10 rfl rfl)
theorem dJ8_append_2_13 : decode cJ8_append_2 13 = .ok (.istore_n 2, 1) := dk_61 (dk_at dksJ8_append_2_0 13 rfl rfl)
theorem dJ8_append_2_14 : decode cJ8_append_2 14 = .ok (.aload_n 0, 1) := dk_42 (dk_at dksJ8_append_2_0 14 rfl rfl)
theorem dJ8_append_2_15 : decode cJ8_append_2 15 = .ok (.aload_n 0, 1) := dk_42 (dk_at dksJ8_append_2_0 15 rfl rfl)
theorem dJ8_append_2_16 : decode cJ8_append_2 16 = .ok (.getfield 79, 3) := dk_180 0 79 (dk_at dksJ8_append_2_0 16 rfl rfl)
theorem dJ8_append_2_19 : decode cJ8_append_2 19 = .ok (.iload_n 2, 1) := dk_28 (dk_at dksJ8_append_2_0 19 rfl rfl)
theorem dJ8_append_2_20 : decode cJ8_append_2 20 = .ok (.iadd, 1) := dk_96 (dk_at dksJ8_append_2_0 20 rfl rfl)
theorem dJ8_append_2_21 : decode cJ8_append_2 21 = .ok (.invokevirtual 100, 3) := dk_182 0 100 (dk_at dksJ8_append_2_0 21 rfl rfl)
theorem dJ8_append_2_24 : decode cJ8_append_2 24 = .ok (.aload_n 0, 1) := dk_42 (dk_at dksJ8_append_2_1 0 rfl rfl)
theorem dJ8_append_2_25 : decode cJ8_append_2 25 = .ok (.aload_n 0, 1) := dk_42 (dk_at dksJ8_append_2_1 1 rfl rfl)
theorem dJ8_append_2_26 : decode cJ8_append_2 26 = .ok (.getfield 79, 3) := dk_180 0 79 (dk_at dksJ8_append_2_1 2 rfl rfl)
theorem dJ8_append_2_29 : decode cJ8_append_2 29 = .ok (.aload_n 1, 1) := dk_43 (dk_at dksJ8_append_2_1 5 rfl rfl)
theorem dJ8_append_2_30 : decode cJ8_append_2 30 = .ok (.invokevirtual 208, 3) := dk_182 0 208 (dk_at dksJ8_append_2_1 6 rfl rfl)
theorem dJ8_append_2_33 : decode cJ8_append_2 33 = .ok (.aload_n 0, 1) := dk_42 (dk_at dksJ8_append_2_1 9 rfl rfl)
theorem dJ8_append_2_34 : decode cJ8_append_2 34 = .ok (.dup, 1) := dk_89 (dk_at dksJ8_append_2_1 10 rfl rfl)
theorem dJ8_append_2_35 : decode cJ8_append_2 35 = .ok (.getfield 79, 3) := dk_180 0 79 (dk_at dksJ8_append_2_1 11 rfl rfl)
theorem dJ8_append_2_38 : decode cJ8_append_2 38 = .ok (.iload_n 2, 1) := dk_28 (dk_at dksJ8_append_2_1 14 rfl rfl)
theorem dJ8_append_2_39 : decode cJ8_append_2 39 = .ok (.iadd, 1) := dk_96 (dk_at dksJ8_append_2_1 15 rfl rfl)
theorem dJ8_append_2_40 : decode cJ8_append_2 40 = .ok (.putfield 79, 3) := dk_181 0 79 (dk_at dksJ8_append_2_1 16 rfl rfl)
theorem dJ8_append_2_43 : decode cJ8_append_2 43 = .ok (.aload_n 0, 1) := dk_42 (dk_at dksJ8_append_2_1 19 rfl rfl)
theorem dJ8_append_2_44 : decode cJ8_append_2 44 = .ok (.areturn, 1) := dk_176 (dk_at dksJ8_append_2_1 20 rfl rfl)
def dkwJ8_appendNull_3 : List UInt8 := [184, 0, 226, 60, 42, 27, 181, 0, 79, 42, 176]
abbrev dktJ8_appendNull_3 : List UInt8 := dkwJ8_appendNull_3 ++ []
def dkwJ8_appendNull_2 : List UInt8 := [16, 108, 84, 44, 27, 132, 1, 1, 16, 108, 84, 167, 0, 17, 44, 27, 16, 110, 16, 117, 16, 108, 16, 108]
abbrev dktJ8_appendNull_2 : List UInt8 := dkwJ8_appendNull_2 ++ dktJ8_appendNull_3
def dkwJ8_appendNull_1 : List UInt8 := [153, 0, 38, 44, 27, 132, 1, 1, 16, 110, 84, 44, 27, 132, 1, 1, 16, 117, 84, 44, 27, 132, 1, 1]
abbrev dktJ8_appendNull_1 : List UInt8 := dkwJ8_appendNull_1 ++ dktJ8_appendNull_2
def dkwJ8_appendNull_0 : List UInt8 := [42, 42, 180, 0, 79, 7, 96, 182, 0, 100, 42, 180, 0, 79, 60, 42, 180, 0, 15, 77, 42, 182, 0, 83]
abbrev dktJ8_appendNull_0 : List UInt8 := dkwJ8_appendNull_0 ++ dktJ8_appendNull_1
theorem dksJ8_appendNull_0 : cJ8_appendNull.data.toList.drop 0 = dktJ8_appendNull_0 := by decide +kernel
theorem dksJ8_appendNull_1 : cJ8_appendNull.data.toList.drop 24 = dktJ8_appendNull_1 := dk_seg dksJ8_appendNull_0 24 rfl rfl
theorem dksJ8_appendNull_2 : cJ8_appendNull.data.toList.drop 48 = dktJ8_appendNull_2 := dk_seg dksJ8_appendNull_1 24 rfl rfl
theorem dksJ8_appendNull_3 : cJ8_appendNull.data.toList.drop 72 = dktJ8_appendNull_3 := dk_seg dksJ8_appendNull_2 24 rfl rfl
theorem dJ8_appendNull_0 : decode cJ8_appendNull 0 = .ok (.aload_n 0, 1) := dk_42 (dk_at dksJ8_appendNull_0 0 rfl rfl)
theorem dJ8_appendNull_1 : decode cJ8_appendNull 1 = .ok (.aload_n 0, 1) := dk_42 (dk_at dksJ8_appendNull_0 1 rfl rfl)
theorem dJ8_appendNull_2 : decode cJ8_appendNull 2 = .ok (.getfield 79, 3) := dk_180 0 79 (dk_at dksJ8_appendNull_0 2 rfl rfl)
theorem dJ8_appendNull_5 : decode cJ8_appendNull 5 = .ok (.iconst 4, 1) := dk_7 (dk_at dksJ8_appendNull_0 5 rfl rfl)
theorem dJ8_appendNull_6 : decode cJ8_appendNull 6 = .ok (.iadd, 1) := dk_96 (dk_at dksJ8_appendNull_0 6 rfl rfl)
theorem dJ8_appendNull_7 : decode cJ8_appendNull 7 = .ok (.invokevirtual 100, 3) := dk_182 0 100 (dk_at dksJ8_appendNull_0 7 rfl rfl)
theorem dJ8_appendNull_10 : decode cJ8_appendNull 10 = .ok (.aload_n 0, 1) := dk_42 (dk_at dksJ8_appendNull_0 10 rfl rfl)
theorem dJ8_appendNull_11 : decode cJ8_appendNull 11 = .ok (.getfield 79, 3) := dk_180 0 79 (dk_at dksJ8_appendNull_0 11 rfl rfl)
theorem dJ8_appendNull_14 : decode cJ8_appendNull 14 = .ok (.istore_n 1, 1) := dk_60 (dk_at dksJ8_appendNull_0 14 rfl rfl)
theorem dJ8_appendNull_15 : decode cJ8_appendNull 15 = .ok (.aload_n 0, 1) := dk_42 (dk_at dksJ8_appendNull_0 15 rfl rfl)
theorem dJ8_appendNull_16 : decode cJ8_appendNull 16 = .ok (.getfield 15, 3) := dk_180 0 15 (dk_at dksJ8_appendNull_0 16 rfl rfl)
theorem dJ8_appendNull_19 : decode cJ8_appendNull 19 = .ok (.astore_n 2, 1) := dk_77 (dk_at dksJ8_appendNull_0 19 rfl rfl)
theorem dJ8_appendNull_20 : decode cJ8_appendNull 20 = .ok (.aload_n 0, 1) := dk_42 (dk_at dksJ8_appendNull_0 20 rfl rfl)
theorem dJ8_appendNull_21 : decode cJ8_appendNull 21 = .ok (.invokevirtual 83, 3) := dk_182 0 83 (dk_at dksJ8_appendNull_0 21 rfl rfl)
theorem dJ8_appendNull_24 : decode cJ8_appendNull 24 = .ok (.ifCond .eq 38, 3) := dk_153 0 38 (dk_at dksJ8_appendNull_1 0 rfl rfl)
theorem dJ8_appendNull_27 : decode cJ8_appendNull 27 = .ok (.aload_n 2, 1) := dk_44 (dk_at dksJ8_appendNull_1 3 rfl rfl)
theorem dJ8_appendNull_28 : decode cJ8_appendNull 28 = .ok (.iload_n 1, 1) := dk_27 (dk_at dksJ8_appendNull_1 4 rfl rfl)
theorem dJ8_appendNull_29 : decode cJ8_appendNull 29 = .ok (.iinc 1 1, 3) := dk_132 1 1 (dk_at dksJ8_appendNull_1 5 rfl rfl)
theorem dJ8_appendNull_32 : decode cJ8_appendNull 32 = .ok (.bipush 110, 2) := dk_16 110 (dk_at dksJ8_appendNull_1 8 rfl rfl)
theorem dJ8_appendNull_34 : decode cJ8_appendNull 34 = .ok (.bastore, 1) := dk_84 (dk_at dksJ8_appendNull_1 10 rfl rfl)
theorem dJ8_appendNull_35 : decode cJ8_appendNull 35 = .ok (.aload_n 2, 1) := dk_44 (dk_at dksJ8_appendNull_1 11 rfl rfl)
theorem dJ8_appendNull_36 : decode cJ8_appendNull 36 = .ok (.iload_n 1, 1) := dk_27 (dk_at dksJ8_appendNull_1 12 rfl rfl)
theorem dJ8_appendNull_37 : decode cJ8_appendNull 37 = .ok (.iinc 1 1, 3) := dk_132 1 1 (dk_at dksJ8_appendNull_1 13 rfl rfl)
theorem dJ8_appendNull_40 : decode cJ8_appendNull 40 = .ok (.bipush 117, 2) := dk_16 117 (dk_at dksJ8_appendNull_1 16 rfl rfl)
theorem dJ8_appendNull_42 : decode cJ8_appendNull 42 = .ok (.bastore, 1) := dk_84 (dk_at dksJ8_appendNull_1 18 rfl rfl)
theorem dJ8_appendNull_43 : decode cJ8_appendNull 43 = .ok (.aload_n 2, 1) := dk_44 (dk_at dksJ8_appendNull_1 19 rfl rfl)
theorem dJ8_appendNull_44 : decode cJ8_appendNull 44 = .ok (.iload_n 1, 1) := dk_27 (dk_at dksJ8_appendNull_1 20 rfl rfl)
theorem dJ8_appendNull_45 : decode cJ8_appendNull 45 = .ok (.iinc 1 1, 3) := dk_132 1 1 (dk_at dksJ8_appendNull_1 21 rfl rfl)
theorem dJ8_appendNull_48 : decode cJ8_appendNull 48 = .ok (.bipush 108, 2) := dk_16 108 (dk_at dksJ8_appendNull_2 0 rfl rfl)
theorem dJ8_appendNull_50 : decode cJ8_appendNull 50 = .ok (.bastore, 1) := dk_84 (dk_at dksJ8_appendNull_2 2 rfl rfl)
theorem dJ8_appendNull_51 : decode cJ8_appendNull 51 = .ok (.aload_n 2, 1) := dk_44 (dk_at dksJ8_appendNull_2 3 rfl rfl)
theorem dJ8_appendNull_52 : decode cJ8_appendNull 52 = .ok (.iload_n 1, 1) := dk_27 (dk_at dksJ8_appendNull_2 4 rfl rfl)
theorem dJ8_appendNull_53 : decode cJ8_appendNull 53 = .ok (.iinc 1 1, 3) := dk_132 1 1 (dk_at dksJ8_appendNull_2 5 rfl rfl)
theorem dJ8_appendNull_56 : decode cJ8_appendNull 56 = .ok (.bipush 108, 2) := dk_16 108 (dk_at dksJ8_appendNull_2 8 rfl rfl)
theorem dJ8_appendNull_58 : decode cJ8_appendNull 58 = .ok (.bastore, 1) := dk_84 (dk_at dksJ8_appendNull_2 10 rfl rfl)
theorem dJ8_appendNull_59 : decode cJ8_appendNull 59 = .ok (.goto 17, 3) := dk_167 0 17 (dk_at dksJ8_appendNull_2 11 rfl rfl)
theorem dJ8_appendNull_62 : decode cJ8_appendNull 62 = .ok (.aload_n 2, 1) := dk_44 (dk_at dksJ8_appendNull_2 14 rfl rfl)
theorem dJ8_appendNull_63 : decode cJ8_appendNull 63 = .ok (.iload_n 1, 1) := dk_27 (dk_at dksJ8_appendNull_2 15 rfl rfl)
theorem dJ8_appendNull_64 : decode cJ8_appendNull 64 = .ok (.bipush 110, 2) := dk_16 110 (dk_at dksJ8_appendNull_2 16 rfl rfl)
theorem dJ8_appendNull_66 : decode cJ8_appendNull 66 = .ok (.bipush 117, 2) := dk_16 117 (dk_at dksJ8_appendNull_2 18 rfl rfl)
theorem dJ8_appendNull_68 : decode cJ8_appendNull 68 = .ok (.bipush 108, 2) := dk_16 108 (dk_at dksJ8_appendNull_2 20 rfl rfl)
theorem dJ8_appendNull_70 : decode cJ8_appendNull 70 = .ok (.bipush 108, 2) := dk_16 108 (dk_at dksJ8_appendNull_2 22 rfl rfl)
theorem dJ8_appendNull_72 : decode cJ8_appendNull 72 = .ok (.invokestatic 226, 3) := dk_184 0 226 (dk_at dksJ8_appendNull_3 0 rfl rfl)
theorem dJ8_appendNull_75 : decode cJ8_appendNull 75 = .ok (.istore_n 1, 1) := dk_60 (dk_at dksJ8_appendNull_3 3 rfl rfl)
theorem dJ8_appendNull_76 : decode cJ8_appendNull 76 = .ok (.aload_n 0, 1) := dk_42 (dk_at dksJ8_appendNull_3 4 rfl rfl)
theorem dJ8_appendNull_77 : decode cJ8_appendNull 77 = .ok (.iload_n 1, 1) := dk_27 (dk_at dksJ8_appendNull_3 5 rfl rfl)
theorem dJ8_appendNull_78 : decode cJ8_appendNull 78 = .ok (.putfield 79, 3) := dk_181 0 79 (dk_at dksJ8_appendNull_3 6 rfl rfl)
theorem dJ8_appendNull_81 : decode cJ8_appendNull 81 = .ok (.aload_n 0, 1) := dk_42 (dk_at dksJ8_appendNull_3 9 rfl rfl)
theorem dJ8_appendNull_82 : decode cJ8_appendNull 82 = .ok (.areturn, 1) := dk_176 (dk_at dksJ8_appendNull_3 10 rfl rfl)
def dkwJ8_putStringAt_0 : List UInt8 := [42, 44, 182, 1, 141, 44, 42, 180, 0, 15, 27, 42, 180, 0, 22, 182, 1, 143, 177]
abbrev dktJ8_putStringAt_0 : List UInt8 := dkwJ8_putStringAt_0 ++ []
theorem dksJ8_putStringAt_0 : cJ8_putStringAt.data.toList.drop 0 = dktJ8_putStringAt_0 := by decide +kernel
theorem dJ8_putStringAt_0 : decode cJ8_putStringAt 0 = .ok (.aload_n 0, 1) := dk_42 (dk_at dksJ8_putStringAt_0 0 rfl rfl)
theorem dJ8_putStringAt_1 : decode cJ8_putStringAt 1 = .ok (.aload_n 2, 1) := dk_44 (dk_at dksJ8_putStringAt_0 1 rfl rfl)
theorem dJ8_putStringAt_2 : decode cJ8_putStringAt 2 = .ok (.invokevirtual 397, 3) := dk_182 1 141 (dk_at dksJ8_putStringAt_0 2 rfl rfl)
theorem dJ8_putStringAt_5 : decode cJ8_putStringAt 5 = .ok (.aload_n 2, 1) := dk_44 (dk_at dksJ8_putStringAt_0 5 rfl rfl)
theorem dJ8_putStringAt_6 : decode cJ8_putStringAt 6 = .ok (.aload_n 0, 1) := dk_42 (dk_at dksJ8_putStringAt_0 6 rfl rfl)
theorem dJ8_putStringAt_7 : decode cJ8_putStringAt 7 = .ok (.getfield 15, 3) := dk_180 0 15 (dk_at dksJ8_putStringAt_0 7 rfl rfl)
theorem dJ8_putStringAt_10 : decode cJ8_putStringAt 10 = .ok (.iload_n 1, 1) := dk_27 (dk_at dksJ8_putStringAt_0 10 rfl rfl)
theorem dJ8_putStringAt_11 : decode cJ8_putStringAt 11 = .ok (.aload_n 0, 1) := dk_42 (dk_at dksJ8_putStringAt_0 11 rfl rfl)
theorem dJ8_putStringAt_12 : decode cJ8_putStringAt 12 = .ok (.getfield 22, 3) := dk_180 0 22 (dk_at dksJ8_putStringAt_0 12 rfl rfl)
theorem dJ8_putStringAt_15 : decode cJ8_putStringAt 15 = .ok (.invokevirtual 399, 3) := dk_182 1 143 (dk_at dksJ8_putStringAt_0 15 rfl rfl)
theorem dJ8_putStringAt_18 : decode cJ8_putStringAt 18 = .ok (.return_, 1) := dk_177 (dk_at dksJ8_putStringAt_0 18 rfl rfl)
def dkwJ8_inflateIfNeededFor_0 : List UInt8 := [178, 0, 18, 153, 0, 18, 42, 180, 0, 22, 43, 182, 0, 40, 159, 0, 7, 42, 182, 0, 195, 177]
abbrev dktJ8_inflateIfNeededFor_0 : List UInt8 := dkwJ8_inflateIfNeededFor_0 ++ []
theorem dksJ8_inflateIfNeededFor_0 : cJ8_inflateIfNeededFor.data.toList.drop 0 = dktJ8_inflateIfNeededFor_0 := by decide +kernel
theorem dJ8_inflateIfNeededFor_0 : decode cJ8_inflateIfNeededFor 0 = .ok (.getstatic 18, 3) := dk_178 0 18 (dk_at dksJ8_inflateIfNeededFor_0 0 rfl rfl)
theorem dJ8_inflateIfNeededFor_3 : decode cJ8_inflateIfNeededFor 3 = .ok (.ifCond .eq 18, 3) := dk_153 0 18 (dk_at dksJ8_inflateIfNeededFor_0 3 rfl rfl)
theorem dJ8_inflateIfNeededFor_6 : decode cJ8_inflateIfNeededFor 6 = .ok (.aload_n 0, 1) := dk_42 (dk_at dksJ8_inflateIfNeededFor_0 6 rfl rfl)
theorem dJ8_inflateIfNeededFor_7 : decode cJ8_inflateIfNeededFor 7 = .ok (.getfield 22, 3) := dk_180 0 22 (dk_at dksJ8_inflateIfNeededFor_0 7 rfl rfl)
theorem dJ8_inflateIfNeededFor_10 : decode cJ8_inflateIfNeededFor 10 = .ok (.aload_n 1, 1) := dk_43 (dk_at dksJ8_inflateIfNeededFor_0 10 rfl rfl)
theorem dJ8_inflateIfNeededFor_11 : decode cJ8_inflateIfNeededFor 11 = .ok (.invokevirtual 40, 3) := dk_182 0 40 (dk_at dksJ8_inflateIfNeededFor_0 11 rfl rfl)
theorem dJ8_inflateIfNeededFor_14 : decode cJ8_inflateIfNeededFor 14 = .ok (.if_icmp .eq 7, 3) := dk_159 0 7 (dk_at dksJ8_inflateIfNeededFor_0 14 rfl rfl)
theorem dJ8_inflateIfNeededFor_17 : decode cJ8_inflateIfNeededFor 17 = .ok (.aload_n 0, 1) := dk_42 (dk_at dksJ8_inflateIfNeededFor_0 17 rfl rfl)
theorem dJ8_inflateIfNeededFor_18 : decode cJ8_inflateIfNeededFor 18 = .ok (.invokevirtual 195, 3) := dk_182 0 195 (dk_at dksJ8_inflateIfNeededFor_0 18 rfl rfl)
theorem dJ8_inflateIfNeededFor_21 : decode cJ8_inflateIfNeededFor 21 = .ok (.return_, 1) := dk_177 (dk_at dksJ8_inflateIfNeededFor_0 21 rfl rfl)
def dkwJ8_inflate_1 : List UInt8 := [42, 180, 0, 79, 184, 0, 125, 42, 43, 181, 0, 15, 42, 4, 181, 0, 22, 177]
abbrev dktJ8_inflate_1 : List UInt8 := dkwJ8_inflate_1 ++ []
def dkwJ8_inflate_0 : List UInt8 := [42, 182, 0, 83, 154, 0, 4, 177, 42, 180, 0, 15, 190, 184, 0, 26, 76, 42, 180, 0, 15, 3, 43, 3]
abbrev dktJ8_inflate_0 : List UInt8 := dkwJ8_inflate_0 ++ dktJ8_inflate_1
theorem dksJ8_inflate_0 : cJ8_inflate.data.toList.drop 0 = dktJ8_inflate_0 := by decide +kernel
theorem dksJ8_inflate_1 : cJ8_inflate.data.toList.drop 24 = dktJ8_inflate_1 := dk_seg dksJ8_inflate_0 24 rfl rfl
theorem dJ8_inflate_0 : decode cJ8_inflate 0 = .ok (.aload_n 0, 1) := dk_42 (dk_at dksJ8_inflate_0 0 rfl rfl)
theorem dJ8_inflate_1 : decode cJ8_inflate 1 = .ok (.invokevirtual 83, 3) := dk_182 0 83 (dk_at dksJ8_inflate_0 1 rfl rfl)
theorem dJ8_inflate_4 : decode cJ8_inflate 4 = .ok (.ifCond .ne 4, 3) := dk_154 0 4 (dk_at dksJ8_inflate_0 4 rfl rfl)
theorem dJ8_inflate_7 : decode cJ8_inflate 7 = .ok (.return_, 1) := dk_177 (dk_at dksJ8_inflate_0 7 rfl rfl)
theorem dJ8_inflate_8 : decode cJ8_inflate 8 = .ok (.aload_n 0, 1) := dk_42 (dk_at dksJ8_inflate_0 8 rfl rfl)
theorem dJ8_inflate_9 : decode cJ8_inflate 9 = .ok (.getfield 15, 3) := dk_180 0 15 (dk_at dksJ8_inflate_0 9 rfl rfl)
theorem dJ8_inflate_12 : decode cJ8_inflate 12 = .ok (.arraylength, 1) := dk_190 (dk_at dksJ8_inflate_0 12 rfl rfl)
theorem dJ8_inflate_13 : decode cJ8_inflate 13 = .ok (.invokestatic 26, 3) := dk_184 0 26 (dk_at dksJ8_inflate_0 13 rfl rfl)
theorem dJ8_inflate_16 : decode cJ8_inflate 16 = .ok (.astore_n 1, 1) := dk_76 (dk_at dksJ8_inflate_0 16 rfl rfl)
theorem dJ8_inflate_17 : decode cJ8_inflate 17 = .ok (.aload_n 0, 1) := dk_42 (dk_at dksJ8_inflate_0 17 rfl rfl)
theorem dJ8_inflate_18 : decode cJ8_inflate 18 = .ok (.getfield 15, 3) := dk_180 0 15 (dk_at dksJ8_inflate_0 18 rfl rfl)
theorem dJ8_inflate_21 : decode cJ8_inflate 21 = .ok (.iconst 0, 1) := dk_3 (dk_at dksJ8_inflate_0 21 rfl rfl)
theorem dJ8_inflate_22 : decode cJ8_inflate 22 = .ok (.aload_n 1, 1) := dk_43 (dk_at dksJ8_inflate_0 22 rfl rfl)
theorem dJ8_inflate_23 : decode cJ8_inflate 23 = .ok (.iconst 0, 1) := dk_3 (dk_at dksJ8_inflate_0 23 rfl rfl)
theorem dJ8_inflate_24 : decode cJ8_inflate 24 = .ok (.aload_n 0, 1) := dk_42 (dk_at dksJ8_inflate_1 0 rfl rfl)
theorem dJ8_inflate_25 : decode cJ8_inflate 25 = .ok (.getfield 79, 3) := dk_180 0 79 (dk_at dksJ8_inflate_1 1 rfl rfl)
theorem dJ8_inflate_28 : decode cJ8_inflate 28 = .ok (.invokestatic 125, 3) := dk_184 0 125 (dk_at dksJ8_inflate_1 4 rfl rfl)
theorem dJ8_inflate_31 : decode cJ8_inflate 31 = .ok (.aload_n 0, 1) := dk_42 (dk_at dksJ8_inflate_1 7 rfl rfl)
theorem dJ8_inflate_32 : decode cJ8_inflate 32 = .ok (.aload_n 1, 1) := dk_43 (dk_at dksJ8_inflate_1 8 rfl rfl)
theorem dJ8_inflate_33 : decode cJ8_inflate 33 = .ok (.putfield 15, 3) := dk_181 0 15 (dk_at dksJ8_inflate_1 9 rfl rfl)
theorem dJ8_inflate_36 : decode cJ8_inflate 36 = .ok (.aload_n 0, 1) := dk_42 (dk_at dksJ8_inflate_1 12 rfl rfl)
theorem dJ8_inflate_37 : decode cJ8_inflate 37 = .ok (.iconst 1, 1) := dk_4 (dk_at dksJ8_inflate_1 13 rfl rfl)
theorem dJ8_inflate_38 : decode cJ8_inflate 38 = .ok (.putfield 22, 3) := dk_181 0 22 (dk_at dksJ8_inflate_1 14 rfl rfl)
theorem dJ8_inflate_41 : decode cJ8_inflate 41 = .ok (.return_, 1) := dk_177 (dk_at dksJ8_inflate_1 17 rfl rfl)
def dkwJ8_append_3_3 : List UInt8 := [181, 0, 79, 27, 184, 0, 197, 42, 176]
abbrev dktJ8_append_3_3 : List UInt8 := dkwJ8_append_3_3 ++ []
def dkwJ8_append_3_2 : List UInt8 := [182, 0, 83, 153, 0, 7, 42, 182, 0, 195, 42, 180, 0, 15, 42, 89, 180, 0, 79, 90, 4, 96]
abbrev dktJ8_append_3_2 : List UInt8 := dkwJ8_append_3_2 ++ dktJ8_append_3_3
def dkwJ8_append_3_1 : List UInt8 := [42, 180, 0, 15, 42, 89, 180, 0, 79, 90, 4, 96, 181, 0, 79, 27, 145, 84, 167, 0, 33, 42]
abbrev dktJ8_append_3_1 : List UInt8 := dkwJ8_append_3_1 ++ dktJ8_append_3_2
def dkwJ8_append_3_0 : List UInt8 := [42, 42, 180, 0, 79, 4, 96, 182, 0, 100, 42, 182, 0, 83, 153, 0, 31, 27, 184, 0, 191, 153, 0, 24]
abbrev dktJ8_append_3_0 : List UInt8 := dkwJ8_append_3_0 ++ dktJ8_append_3_1
theorem dksJ8_append_3_0 : cJ8_append_3.data.toList.drop 0 = dktJ8_append_3_0 := by decide +kernel
theorem dksJ8_append_3_1 : cJ8_append_3.data.toList.drop 24 = dktJ8_append_3_1 := dk_seg dksJ8_append_3_0 24 rfl rfl
theorem dksJ8_append_3_2 : cJ8_append_3.data.toList.drop 46 = dktJ8_append_3_2 := dk_seg dksJ8_append_3_1 22 rfl rfl
theorem dksJ8_append_3_3 : cJ8_append_3.data.toList.drop 68 = dktJ8_append_3_3 := dk_seg dksJ8_append_3_2 22 rfl rfl
theorem dJ8_append_3_0 : decode cJ8_append_3 0 = .ok (.aload_n 0, 1) := dk_42 (dk_at dksJ8_append_3_0 0 rfl rfl)
theorem dJ8_append_3_1 : decode cJ8_append_3 1 = .ok (.aload_n 0, 1) := dk_42 (dk_at dksJ8_append_3_0 1 rfl rfl)
theorem dJ8_append_3_2 : decode cJ8_append_3 2 = .ok (.getfield 79, 3) := dk_180 0 79 (dk_at dksJ8_append_3_0 2 rfl rfl)
theorem dJ8_append_3_5 : decode cJ8_append_3 5 = .ok (.iconst 1, 1) := dk_4 (dk_at dksJ8_append_3_0 5 rfl rfl)
theorem dJ8_append_3_6 : decode cJ8_append_3 6 = .ok (.iadd, 1) := dk_96 (dk_at dksJ8_append_3_0 6 rfl rfl)
theorem dJ8_append_3_7 : decode cJ8_append_3 7 = .ok (.invokevirtual 100, 3) := dk_182 0 100 (dk_at dksJ8_append_3_0 7 rfl rfl)
theorem dJ8_append_3_10 : decode cJ8_append_3 10 = .ok (.aload_n 0, 1) := dk_42 (dk_at dksJ8_append_3_0 10 rfl rfl)
theorem dJ8_append_3_11 : decode cJ8_append_3 11 = .ok (.invokevirtual 83, 3) := dk_182 0 83 (dk_at dksJ8_append_3_0 11 rfl rfl)
theorem dJ8_append_3_14 : decode cJ8_append_3 14 = .ok (.ifCond .eq 31, 3) := dk_153 0 31 (dk_at dksJ8_append_3_0 14 rfl rfl)
theorem dJ8_append_3_17 : decode cJ8_append_3 17 = .ok (.iload_n 1, 1) := dk_27 (dk_at dksJ8_append_3_0 17 rfl rfl)
theorem dJ8_append_3_18 : decode cJ8_append_3 18 = .ok (.invokestatic 191, 3) := dk_184 0 191 (dk_at dksJ8_append_3_0 18 rfl rfl)
theorem dJ8_append_3_21 : decode cJ8_append_3 21 = .ok (.ifCond .eq 24, 3) := dk_153 0 24 (dk_at dksJ8_append_3_0 21 rfl rfl)
theorem dJ8_append_3_24 : decode cJ8_append_3 24 = .ok (.aload_n 0, 1) := dk_42 (dk_at dksJ8_append_3_1 0 rfl rfl)
theorem dJ8_append_3_25 : decode cJ8_append_3 25 = .ok (.getfield 15, 3) := dk_180 0 15 (dk_at dksJ8_append_3_1 1 rfl rfl)
theorem dJ8_append_3_28 : decode cJ8_append_3 28 = .ok (.aload_n 0, 1) := dk_42 (dk_at dksJ8_append_3_1 4 rfl rfl)
theorem dJ8_append_3_29 : decode cJ8_append_3 29 = .ok (.dup, 1) := dk_89 (dk_at dksJ8_append_3_1 5 rfl rfl)
theorem dJ8_append_3_30 : decode cJ8_append_3 30 = .ok (.getfield 79, 3) := dk_180 0 79 (dk_at dksJ8_append_3_1 6 rfl rfl)
theorem dJ8_append_3_33 : decode cJ8_append_3 33 = .ok (.dup_x1, 1) := dk_90 (dk_at dksJ8_append_3_1 9 rfl rfl)
theorem dJ8_append_3_34 : decode cJ8_append_3 34 = .ok (.iconst 1, 1) := dk_4 (dk_at dksJ8_append_3_1 10 rfl rfl)
theorem dJ8_append_3_35 : decode cJ8_append_3 35 = .ok (.iadd, 1) := dk_96 (dk_at dksJ8_append_3_1 11 rfl rfl)
theorem dJ8_append_3_36 : decode cJ8_append_3 36 = .ok (.putfield 79, 3) := dk_181 0 79 (dk_at dksJ8_append_3_1 12 rfl rfl)
theorem dJ8_append_3_39 : decode cJ8_append_3 39 = .ok (.iload_n 1, 1) := dk_27 (dk_at dksJ8_append_3_1 15 rfl rfl)
theorem dJ8_append_3_40 : decode cJ8_append_3 40 = .ok (.i2b, 1) := dk_145 (dk_at dksJ8_append_3_1 16 rfl rfl)
theorem dJ8_append_3_41 : decode cJ8_append_3 41 = .ok (.bastore, 1) := dk_84 (dk_at dksJ8_append_3_1 17 rfl rfl)
theorem dJ8_append_3_42 : decode cJ8_append_3 42 = .ok (.goto 33, 3) := dk_167 0 33 (dk_at dksJ8_append_3_1 18 rfl rfl)
theorem dJ8_append_3_45 : decode cJ8_append_3 45 = .ok (.aload_n 0, 1) := dk_42 (dk_at dksJ8_append_3_1 21 rfl rfl)
theorem dJ8_append_3_46 : decode cJ8_append_3 46 = .ok (.invokevirtual 83, 3) := dk_182 0 83 (dk_at dksJ8_append_3_2 0 rfl rfl)
theorem dJ8_append_3_49 : decode cJ8_append_3 49 = .ok (.ifCond .eq 7, 3) := dk_153 0 7 (dk_at dksJ8_append_3_2 3 rfl rfl)
theorem dJ8_append_3_52 : decode cJ8_append_3 52 = .ok (.aload_n 0, 1) := dk_42 (dk_at dksJ8_append_3_2 6 rfl rfl)
theorem dJ8_append_3_53 : decode cJ8_append_3 53 = .ok (.invokevirtual 195, 3) := dk_182 0 195 (dk_at dksJ8_append_3_2 7 rfl rfl)
theorem dJ8_append_3_56 : decode cJ8_append_3 56 = .ok (.aload_n 0, 1) := dk_42 (dk_at dksJ8_append_3_2 10 rfl rfl)
theorem dJ8_append_3_57 : decode cJ8_append_3 57 = .ok (.getfield 15, 3) := dk_180 0 15 (dk_at dksJ8_append_3_2 11 rfl rfl)
theorem dJ8_append_3_60 : decode cJ8_append_3 60 = .ok (.aload_n 0, 1) := dk_42 (dk_at dksJ8_append_3_2 14 rfl rfl)
theorem dJ8_append_3_61 : decode cJ8_append_3 61 = .ok (.dup, 1) := dk_89 (dk_at dksJ8_append_3_2 15 rfl rfl)
theorem dJ8_append_3_62 : decode cJ8_append_3 62 = .ok (.getfield 79, 3) := dk_180 0 79 (dk_at dksJ8_append_3_2 16 rfl rfl)
theorem dJ8_append_3_65 : decode cJ8_append_3 65 = .ok (.dup_x1, 1) := dk_90 (dk_at dksJ8_append_3_2 19 rfl rfl)
theorem dJ8_append_3_66 : decode cJ8_append_3 66 = .ok (.iconst 1, 1) := dk_4 (dk_at dksJ8_append_3_2 20 rfl rfl)
theorem dJ8_append_3_67 : decode cJ8_append_3 67 = .ok (.iadd, 1) := dk_96 (dk_at dksJ8_append_3_2 21 rfl rfl)
theorem dJ8_append_3_68 : decode cJ8_append_3 68 = .ok (.putfield 79, 3) := dk_181 0 79 (dk_at dksJ8_append_3_3 0 rfl rfl)
theorem dJ8_append_3_71 : decode cJ8_append_3 71 = .ok (.iload_n 1, 1) := dk_27 (dk_at dksJ8_append_3_3 3 rfl rfl)
theorem dJ8_append_3_72 : decode cJ8_append_3 72 = .ok (.invokestatic 197, 3) := dk_184 0 197 (dk_at dksJ8_append_3_3 4 rfl rfl)
theorem dJ8_append_3_75 : decode cJ8_append_3 75 = .ok (.aload_n 0, 1) := dk_42 (dk_at dksJ8_append_3_3 7 rfl rfl)
theorem dJ8_append_3_76 : decode cJ8_append_3 76 = .ok (.areturn, 1) := dk_176 (dk_at dksJ8_append_3_3 8 rfl rfl)
theorem dJ8_getValue_0 : decode cJ8_getValue 0 = .ok (.aload_n 0, 1) := by decide +kernel
theorem dJ8_getValue_1 : decode cJ8_getValue 1 = .ok (.getfield 15, 3) := by decide +kernel
theorem dJ8_getValue_4 : decode cJ8_getValue 4 = .ok (.areturn, 1) := by decide +kernel
theorem dJ8_length_0 : decode cJ8_length 0 = .ok (.aload_n 0, 1) := by decide +kernel
theorem dJ8_length_1 : decode cJ8_length 1 = .ok (.getfield 79, 3) := by decide +kernel
theorem dJ8_length_4 : decode cJ8_length 4 = .ok (.ireturn, 1) := by decide +kernel
def dkwJ8_setLength_3 : List UInt8 := [164, 0, 8, 42, 4, 181, 0, 73, 42, 27, 181, 0, 79, 177]
abbrev dktJ8_setLength_3 : List UInt8 := dkwJ8_setLength_3 ++ []
def dkwJ8_setLength_2 : List UInt8 := [167, 0, 31, 42, 180, 0, 15, 42, 180, 0, 79, 27, 184, 0, 137, 167, 0, 16, 42, 180, 0, 79, 27]
abbrev dktJ8_setLength_2 : List UInt8 := dkwJ8_setLength_2 ++ dktJ8_setLength_3
def dkwJ8_setLength_1 : List UInt8 := [162, 0, 40, 42, 182, 0, 83, 153, 0, 18, 42, 180, 0, 15, 42, 180, 0, 79, 27, 184, 0, 133]
abbrev dktJ8_setLength_1 : List UInt8 := dkwJ8_setLength_1 ++ dktJ8_setLength_2
def dkwJ8_setLength_0 : List UInt8 := [27, 156, 0, 12, 187, 0, 129, 89, 27, 183, 0, 131, 191, 42, 27, 182, 0, 100, 42, 180, 0, 79, 27]
abbrev dktJ8_setLength_0 : List UInt8 := dkwJ8_setLength_0 ++ dktJ8_setLength_1
theorem dksJ8_setLength_0 : cJ8_setLength.data.toList.drop 0 = dktJ8_setLength_0 := by decide +kernel
theorem dksJ8_setLength_1 : cJ8_setLength.data.toList.drop 23 = dktJ8_setLength_1 := dk_seg dksJ8_setLength_0 23 rfl rfl
theorem dksJ8_setLength_2 : cJ8_setLength.data.toList.drop 45 = dktJ8_setLength_2 := dk_seg dksJ8_setLength_1 22 rfl rfl
theorem dksJ8_setLength_3 : cJ8_setLength.data.toList.drop 68 = dktJ8_setLength_3 := dk_seg dksJ8_setLength_2 23 rfl rfl
theorem dJ8_setLength_0 : decode cJ8_setLength 0 = .ok (.iload_n 1, 1) := dk_27 (dk_at dksJ8_setLength_0 0 rfl rfl)
theorem dJ8_setLength_1 : decode cJ8_setLength 1 = .ok (.ifCond .ge 12, 3) := dk_156 0 12 (dk_at dksJ8_setLength_0 1 rfl rfl)
theorem dJ8_setLength_4 : decode cJ8_setLength 4 = .ok (.new 129, 3) := dk_187 0 129 (dk_at dksJ8_setLength_0 4 rfl rfl)
theorem dJ8_setLength_7 : decode cJ8_setLength 7 = .ok (.dup, 1) := dk_89 (dk_at dksJ8_setLength_0 7 rfl rfl)
theorem dJ8_setLength_8 : decode cJ8_setLength 8 = .ok (.iload_n 1, 1) := dk_27 (dk_at dksJ8_setLength_0 8 rfl rfl)
theorem dJ8_setLength_9 : decode cJ8_setLength 9 = .ok (.invokespecial 131, 3) := dk_183 0 131 (dk_at dksJ8_setLength_0 9 rfl rfl)
theorem dJ8_setLength_12 : decode cJ8_setLength 12 = .ok (.athrow, 1) := dk_191 (dk_at dksJ8_setLength_0 12 rfl rfl)
theorem dJ8_setLength_13 : decode cJ8_setLength 13 = .ok (.aload_n 0, 1) := dk_42 (dk_at dksJ8_setLength_0 13 rfl rfl)
theorem dJ8_setLength_14 : decode cJ8_setLength 14 = .ok (.iload_n 1, 1) := dk_27 (dk_at dksJ8_setLength_0 14 rfl rfl)
theorem dJ8_setLength_15 : decode cJ8_setLength 15 = .ok (.invokevirtual 100, 3) := dk_182 0 100 (dk_at dksJ8_setLength_0 15 rfl rfl)
theorem dJ8_setLength_18 : decode cJ8_setLength 18 = .ok (.aload_n 0, 1) := dk_42 (dk_at dksJ8_setLength_0 18 rfl rfl)
theorem dJ8_setLength_19 : decode cJ8_setLength 19 = .ok (.getfield 79, 3) := dk_180 0 79 (dk_at dksJ8_setLength_0 19 rfl rfl)
theorem dJ8_setLength_22 : decode cJ8_setLength 22 = .ok (.iload_n 1, 1) := dk_27 (dk_at dksJ8_setLength_0 22 rfl rfl)
theorem dJ8_setLength_23 : decode cJ8_setLength 23 = .ok (.if_icmp .ge 40, 3) := dk_162 0 40 (dk_at dksJ8_setLength_1 0 rfl rfl)
theorem dJ8_setLength_26 : decode cJ8_setLength 26 = .ok (.aload_n 0, 1) := dk_42 (dk_at dksJ8_setLength_1 3 rfl rfl)
theorem dJ8_setLength_27 : decode cJ8_setLength 27 = .ok (.invokevirtual 83, 3) := dk_182 0 83 (dk_at dksJ8_setLength_1 4 rfl rfl)
theorem dJ8_setLength_30 : decode cJ8_setLength 30 = .ok (.ifCond .eq 18, 3) := dk_153 0 18 (dk_at dksJ8_setLength_1 7 rfl rfl)
theorem dJ8_setLength_33 : decode cJ8_setLength 33 = .ok (.aload_n 0, 1) := dk_42 (dk_at dksJ8_setLength_1 10 rfl rfl)
theorem dJ8_setLength_34 : decode cJ8_setLength 34 = .ok (.getfield 15, 3) := dk_180 0 15 (dk_at dksJ8_setLength_1 11 rfl rfl)
theorem dJ8_setLength_37 : decode cJ8_setLength 37 = .ok (.aload_n 0, 1) := dk_42 (dk_at dksJ8_setLength_1 14 rfl rfl)
theorem dJ8_setLength_38 : decode cJ8_setLength 38 = .ok (.getfield 79, 3) := dk_180 0 79 (dk_at dksJ8_setLength_1 15 rfl rfl)
theorem dJ8_setLength_41 : decode cJ8_setLength 41 = .ok (.iload_n 1, 1) := dk_27 (dk_at dksJ8_setLength_1 18 rfl rfl)
theorem dJ8_setLength_42 : decode cJ8_setLength 42 = .ok (.invokestatic 133, 3) := dk_184 0 133 (dk_at dksJ8_setLength_1 19 rfl rfl)
theorem dJ8_setLength_45 : decode cJ8_setLength 45 = .ok (.goto 31, 3) := dk_167 0 31 (dk_at dksJ8_setLength_2 0 rfl rfl)
theorem dJ8_setLength_48 : decode cJ8_setLength 48 = .ok (.aload_n 0, 1) := dk_42 (dk_at dksJ8_setLength_2 3 rfl rfl)
theorem dJ8_setLength_49 : decode cJ8_setLength 49 = .ok (.getfield 15, 3) := dk_180 0 15 (dk_at dksJ8_setLength_2 4 rfl rfl)
theorem dJ8_setLength_52 : decode cJ8_setLength 52 = .ok (.aload_n 0, 1) := dk_42 (dk_at dksJ8_setLength_2 7 rfl rfl)
theorem dJ8_setLength_53 : decode cJ8_setLength 53 = .ok (.getfield 79, 3) := dk_180 0 79 (dk_at dksJ8_setLength_2 8 rfl rfl)
theorem dJ8_setLength_56 : decode cJ8_setLength 56 = .ok (.iload_n 1, 1) := dk_27 (dk_at dksJ8_setLength_2 11 rfl rfl)
theorem dJ8_setLength_57 : decode cJ8_setLength 57 = .ok (.invokestatic 137, 3) := dk_184 0 137 (dk_at dksJ8_setLength_2 12 rfl rfl)
theorem dJ8_setLength_60 : decode cJ8_setLength 60 = .ok (.goto 16, 3) := dk_167 0 16 (dk_at dksJ8_setLength_2 15 rfl rfl)
theorem dJ8_setLength_63 : decode cJ8_setLength 63 = .ok (.aload_n 0, 1) := dk_42 (dk_at dksJ8_setLength_2 18 rfl rfl)
theorem dJ8_setLength_64 : decode cJ8_setLength 64 = .ok (.getfield 79, 3) := dk_180 0 79 (dk_at dksJ8_setLength_2 19 rfl rfl)
theorem dJ8_setLength_67 : decode cJ8_setLength 67 = .ok (.iload_n 1, 1) := dk_27 (dk_at dksJ8_setLength_2 22 rfl rfl)
theorem dJ8_setLength_68 : decode cJ8_setLength 68 = .ok (.if_icmp .le 8, 3) := dk_164 0 8 (dk_at dksJ8_setLength_3 0 rfl rfl)
theorem dJ8_setLength_71 : decode cJ8_setLength 71 = .ok (.aload_n 0, 1) := dk_42 (dk_at dksJ8_setLength_3 3 rfl rfl)
theorem dJ8_setLength_72 : decode cJ8_setLength 72 = .ok (.iconst 1, 1) := dk_4 (dk_at dksJ8_setLength_3 4 rfl rfl)
theorem dJ8_setLength_73 : decode cJ8_setLength 73 = .ok (.putfield 73, 3) := dk_181 0 73 (dk_at dksJ8_setLength_3 5 rfl rfl)
theorem dJ8_setLength_76 : decode cJ8_setLength 76 = .ok (.aload_n 0, 1) := dk_42 (dk_at dksJ8_setLength_3 8 rfl rfl)
theorem dJ8_setLength_77 : decode cJ8_setLength 77 = .ok (.iload_n 1, 1) := dk_27 (dk_at dksJ8_setLength_3 9 rfl rfl)
theorem dJ8_setLength_78 : decode cJ8_setLength 78 = .ok (.putfield 79, 3) := dk_181 0 79 (dk_at dksJ8_setLength_3 10 rfl rfl)
theorem dJ8_setLength_81 : decode cJ8_setLength 81 = .ok (.return_, 1) := dk_177 (dk_at dksJ8_setLength_3 13 rfl rfl)
def dkwJ9_init_0 : List UInt8 := [42, 16, 16, 183, 0, 1, 177]
abbrev dktJ9_init_0 : List UInt8 := dkwJ9_init_0 ++ []
theorem dksJ9_init_0 : cJ9_init.data.toList.drop 0 = dktJ9_init_0 := by decide +kernel
theorem dJ9_init_0 : decode cJ9_init 0 = .ok (.aload_n 0, 1) := dk_42 (dk_at dksJ9_init_0 0 rfl rfl)
theorem dJ9_init_1 : decode cJ9_init 1 = .ok (.bipush 16, 2) := dk_16 16 (dk_at dksJ9_init_0 1 rfl rfl)
theorem dJ9_init_3 : decode cJ9_init 3 = .ok (.invokespecial 1, 3) := dk_183 0 1 (dk_at dksJ9_init_0 3 rfl rfl)
theorem dJ9_init_6 : decode cJ9_init 6 = .ok (.return_, 1) := dk_177 (dk_at dksJ9_init_0 6 rfl rfl)
def dkwJ9_append_0 : List UInt8 := [42, 27, 183, 0, 53, 87, 42, 176]
abbrev dktJ9_append_0 : List UInt8 := dkwJ9_append_0 ++ []
theorem dksJ9_append_0 : cJ9_append.data.toList.drop 0 = dktJ9_append_0 := by decide +kernel
theorem dJ9_append_0 : decode cJ9_append 0 = .ok (.aload_n 0, 1) := dk_42 (dk_at dksJ9_append_0 0 rfl rfl)
theorem dJ9_append_1 : decode cJ9_append 1 = .ok (.iload_n 1, 1) := dk_27 (dk_at dksJ9_append_0 1 rfl rfl)
theorem dJ9_append_2 : decode cJ9_append 2 = .ok (.invokespecial 53, 3) := dk_183 0 53 (dk_at dksJ9_append_0 2 rfl rfl)
theorem dJ9_append_5 : decode cJ9_append 5 = .ok (.pop, 1) := dk_87 (dk_at dksJ9_append_0 5 rfl rfl)
theorem dJ9_append_6 : decode cJ9_append 6 = .ok (.aload_n 0, 1) := dk_42 (dk_at dksJ9_append_0 6 rfl rfl)
theorem dJ9_append_7 : decode cJ9_append 7 = .ok (.areturn, 1) := dk_176 (dk_at dksJ9_append_0 7 rfl rfl)
def dkwJ9_append_2_0 : List UInt8 := [42, 43, 183, 0, 29, 87, 42, 176]
abbrev dktJ9_append_2_0 : List UInt8 := dkwJ9_append_2_0 ++ []
theorem dksJ9_append_2_0 : cJ9_append_2.data.toList.drop 0 = dktJ9_append_2_0 := by decide +kernel
theorem dJ9_append_2_0 : decode cJ9_append_2 0 = .ok (.aload_n 0, 1) := dk_42 (dk_at dksJ9_append_2_0 0 rfl rfl)
theorem dJ9_append_2_1 : decode cJ9_append_2 1 = .ok (.aload_n 1, 1) := dk_43 (dk_at dksJ9_append_2_0 1 rfl rfl)
theorem dJ9_append_2_2 : decode cJ9_append_2 2 = .ok (.invokespecial 29, 3) := dk_183 0 29 (dk_at dksJ9_append_2_0 2 rfl rfl)
theorem dJ9_append_2_5 : decode cJ9_append_2 5 = .ok (.pop, 1) := dk_87 (dk_at dksJ9_append_2_0 5 rfl rfl)
theorem dJ9_append_2_6 : decode cJ9_append_2 6 = .ok (.aload_n 0, 1) := dk_42 (dk_at dksJ9_append_2_0 6 rfl rfl)
theorem dJ9_append_2_7 : decode cJ9_append_2 7 = .ok (.areturn, 1) := dk_176 (dk_at dksJ9_append_2_0 7 rfl rfl)
def dkwJ9_append_3_0 : List UInt8 := [42, 27, 183, 0, 50, 87, 42, 176]
abbrev dktJ9_append_3_0 : List UInt8 := dkwJ9_append_3_0 ++ []
theorem dksJ9_append_3_0 : cJ9_append_3.data.toList.drop 0 = dktJ9_append_3_0 := by decide +kernel
theorem dJ9_append_3_0 : decode cJ9_append_3 0 = .ok (.aload_n 0, 1) := dk_42 (dk_at dksJ9_append_3_0 0 rfl rfl)
theorem dJ9_append_3_1 : decode cJ9_append_3 1 = .ok (.iload_n 1, 1) := dk_27 (dk_at dksJ9_append_3_0 1 rfl rfl)
theorem dJ9_append_3_2 : decode cJ9_append_3 2 = .ok (.invokespecial 50, 3) := dk_183 0 50 (dk_at dksJ9_append_3_0 2 rfl rfl)
theorem dJ9_append_3_5 : decode cJ9_append_3 5 = .ok (.pop, 1) := dk_87 (dk_at dksJ9_append_3_0 5 rfl rfl)
theorem dJ9_append_3_6 : decode cJ9_append_3 6 = .ok (.aload_n 0, 1) := dk_42 (dk_at dksJ9_append_3_0 6 rfl rfl)
theorem dJ9_append_3_7 : decode cJ9_append_3 7 = .ok (.areturn, 1) := dk_176 (dk_at dksJ9_append_3_0 7 rfl rfl)
def dkwJ9_toString_0 : List UInt8 := [187, 0, 18, 89, 42, 183, 0, 137, 176]
abbrev dktJ9_toString_0 : List UInt8 := dkwJ9_toString_0 ++ []
theorem dksJ9_toString_0 : cJ9_toString.data.toList.drop 0 = dktJ9_toString_0 := by decide +kernel
theorem dJ9_toString_0 : decode cJ9_toString 0 = .ok (.new 18, 3) := dk_187 0 18 (dk_at dksJ9_toString_0 0 rfl rfl)
theorem dJ9_toString_3 : decode cJ9_toString 3 = .ok (.dup, 1) := dk_89 (dk_at dksJ9_toString_0 3 rfl rfl)
theorem dJ9_toString_4 : decode cJ9_toString 4 = .ok (.aload_n 0, 1) := dk_42 (dk_at dksJ9_toString_0 4 rfl rfl)
theorem dJ9_toString_5 : decode cJ9_toString 5 = .ok (.invokespecial 137, 3) := dk_183 0 137 (dk_at dksJ9_toString_0 5 rfl rfl)
theorem dJ9_toString_8 : decode cJ9_toString 8 = .ok (.areturn, 1) := dk_176 (dk_at dksJ9_toString_0 8 rfl rfl)
theorem dJ9_length_0 : decode cJ9_length 0 = .ok (.aload_n 0, 1) := by decide +kernel
theorem dJ9_length_1 : decode cJ9_length 1 = .ok (.invokespecial 343, 3) := by decide +kernel
theorem dJ9_length_4 : decode cJ9_length 4 = .ok (.ireturn, 1) := by decide +kernel
def dkwJ9_setLength_0 : List UInt8 := [42, 27, 183, 1, 77, 177]
abbrev dktJ9_setLength_0 : List UInt8 := dkwJ9_setLength_0 ++ []
theorem dksJ9_setLength_0 : cJ9_setLength.data.toList.drop 0 = dktJ9_setLength_0 := by decide +kernel
theorem dJ9_setLength_0 : decode cJ9_setLength 0 = .ok (.aload_n 0, 1) := dk_42 (dk_at dksJ9_setLength_0 0 rfl rfl)
theorem dJ9_setLength_1 : decode cJ9_setLength 1 = .ok (.iload_n 1, 1) := dk_27 (dk_at dksJ9_setLength_0 1 rfl rfl)
theorem dJ9_setLength_2 : decode cJ9_setLength 2 = .ok (.invokespecial 333, 3) := dk_183 1 77 (dk_at dksJ9_setLength_0 2 rfl rfl)
theorem dJ9_setLength_5 : decode cJ9_setLength 5 = .ok (.return_, 1) := dk_177 (dk_at dksJ9_setLength_0 5 rfl rfl)
def dkwX1_init_1 : List UInt8 := [181, 0, 74, 42, 187, 0, 78, 89, 183, 0, 80, 181, 0, 81, 42, 18, 85, 181, 0, 87, 177]
abbrev dktX1_init_1 : List UInt8 := dkwX1_init_1 ++ []
def dkwX1_init_0 : List UInt8 := [42, 183, 0, 63, 42, 187, 0, 66, 89, 183, 0, 68, 181, 0, 69, 42, 187, 0, 39, 89, 183, 0, 73]
abbrev dktX1_init_0 : List UInt8 := dkwX1_init_0 ++ dktX1_init_1
theorem dksX1_init_0 : cX1_init.data.toList.drop 0 = dktX1_init_0 := by decide +kernel
theorem dksX1_init_1 : cX1_init.data.toList.drop 23 = dktX1_init_1 := dk_seg dksX1_init_0 23 rfl rfl
theorem dX1_init_0 : decode cX1_init 0 = .ok (.aload_n 0, 1) := dk_42 (dk_at dksX1_init_0 0 rfl rfl)
theorem dX1_init_1 : decode cX1_init 1 = .ok (.invokespecial 63, 3) := dk_183 0 63 (dk_at dksX1_init_0 1 rfl rfl)
theorem dX1_init_4 : decode cX1_init 4 = .ok (.aload_n 0, 1) := dk_42 (dk_at dksX1_init_0 4 rfl rfl)
theorem dX1_init_5 : decode cX1_init 5 = .ok (.new 66, 3) := dk_187 0 66 (dk_at dksX1_init_0 5 rfl rfl)
theorem dX1_init_8 : decode cX1_init 8 = .ok (.dup, 1) := dk_89 (dk_at dksX1_init_0 8 rfl rfl)
theorem dX1_init_9 : decode cX1_init 9 = .ok (.invokespecial 68, 3) := dk_183 0 68 (dk_at dksX1_init_0 9 rfl rfl)
theorem dX1_init_12 : decode cX1_init 12 = .ok (.putfield 69, 3) := dk_181 0 69 (dk_at dksX1_init_0 12 rfl rfl)
theorem dX1_init_15 : decode cX1_init 15 = .ok (.aload_n 0, 1) := dk_42 (dk_at dksX1_init_0 15 rfl rfl)
theorem dX1_init_16 : decode cX1_init 16 = .ok (.new 39, 3) := dk_187 0 39 (dk_at dksX1_init_0 16 rfl rfl)
theorem dX1_init_19 : decode cX1_init 19 = .ok (.dup, 1) := dk_89 (dk_at dksX1_init_0 19 rfl rfl)
theorem dX1_init_20 : decode cX1_init 20 = .ok (.invokespecial 73, 3) := dk_183 0 73 (dk_at dksX1_init_0 20 rfl rfl)
theorem dX1_init_23 : decode cX1_init 23 = .ok (.putfield 74, 3) := dk_181 0 74 (dk_at dksX1_init_1 0 rfl rfl)
theorem dX1_init_26 : decode cX1_init 26 = .ok (.aload_n 0, 1) := dk_42 (dk_at dksX1_init_1 3 rfl rfl)
theorem dX1_init_27 : decode cX1_init 27 = .ok (.new 78, 3) := dk_187 0 78 (dk_at dksX1_init_1 4 rfl rfl)
theorem dX1_init_30 : decode cX1_init 30 = .ok (.dup, 1) := dk_89 (dk_at dksX1_init_1 7 rfl rfl)
theorem dX1_init_31 : decode cX1_init 31 = .ok (.invokespecial 80, 3) := dk_183 0 80 (dk_at dksX1_init_1 8 rfl rfl)
theorem dX1_init_34 : decode cX1_init 34 = .ok (.putfield 81, 3) := dk_181 0 81 (dk_at dksX1_init_1 11 rfl rfl)
theorem dX1_init_37 : decode cX1_init 37 = .ok (.aload_n 0, 1) := dk_42 (dk_at dksX1_init_1 14 rfl rfl)
theorem dX1_init_38 : decode cX1_init 38 = .ok (.ldc 85, 2) := dk_18 85 (dk_at dksX1_init_1 15 rfl rfl)
theorem dX1_init_40 : decode cX1_init 40 = .ok (.putfield 87, 3) := dk_181 0 87 (dk_at dksX1_init_1 17 rfl rfl)
theorem dX1_init_43 : decode cX1_init 43 = .ok (.return_, 1) := dk_177 (dk_at dksX1_init_1 20 rfl rfl)
def dkwX1_peopleCount_0 : List UInt8 := [42, 180, 0, 69, 180, 0, 118, 182, 0, 91, 172]
abbrev dktX1_peopleCount_0 : List UInt8 := dkwX1_peopleCount_0 ++ []
theorem dksX1_peopleCount_0 : cX1_peopleCount.data.toList.drop 0 = dktX1_peopleCount_0 := by decide +kernel
theorem dX1_peopleCount_0 : decode cX1_peopleCount 0 = .ok (.aload_n 0, 1) := dk_42 (dk_at dksX1_peopleCount_0 0 rfl rfl)
theorem dX1_peopleCount_1 : decode cX1_peopleCount 1 = .ok (.getfield 69, 3) := dk_180 0 69 (dk_at dksX1_peopleCount_0 1 rfl rfl)
theorem dX1_peopleCount_4 : decode cX1_peopleCount 4 = .ok (.getfield 118, 3) := dk_180 0 118 (dk_at dksX1_peopleCount_0 4 rfl rfl)
theorem dX1_peopleCount_7 : decode cX1_peopleCount 7 = .ok (.invokevirtual 91, 3) := dk_182 0 91 (dk_at dksX1_peopleCount_0 7 rfl rfl)
theorem dX1_peopleCount_10 : decode cX1_peopleCount 10 = .ok (.ireturn, 1) := dk_172 (dk_at dksX1_peopleCount_0 10 rfl rfl)
def dkwX1_livingCount_0 : List UInt8 := [42, 180, 0, 69, 182, 0, 169, 172]
abbrev dktX1_livingCount_0 : List UInt8 := dkwX1_livingCount_0 ++ []
theorem dksX1_livingCount_0 : cX1_livingCount.data.toList.drop 0 = dktX1_livingCount_0 := by decide +kernel
theorem dX1_livingCount_0 : decode cX1_livingCount 0 = .ok (.aload_n 0, 1) := dk_42 (dk_at dksX1_livingCount_0 0 rfl rfl)
theorem dX1_livingCount_1 : decode cX1_livingCount 1 = .ok (.getfield 69, 3) := dk_180 0 69 (dk_at dksX1_livingCount_0 1 rfl rfl)
theorem dX1_livingCount_4 : decode cX1_livingCount 4 = .ok (.invokevirtual 169, 3) := dk_182 0 169 (dk_at dksX1_livingCount_0 4 rfl rfl)
theorem dX1_livingCount_7 : decode cX1_livingCount 7 = .ok (.ireturn, 1) := dk_172 (dk_at dksX1_livingCount_0 7 rfl rfl)
def dkwX1_asInt_0 : List UInt8 := [26, 153, 0, 7, 4, 167, 0, 4, 3, 172]
abbrev dktX1_asInt_0 : List UInt8 := dkwX1_asInt_0 ++ []
theorem dksX1_asInt_0 : cX1_asInt.data.toList.drop 0 = dktX1_asInt_0 := by decide +kernel
theorem dX1_asInt_0 : decode cX1_asInt 0 = .ok (.iload_n 0, 1) := dk_26 (dk_at dksX1_asInt_0 0 rfl rfl)
theorem dX1_asInt_1 : decode cX1_asInt 1 = .ok (.ifCond .eq 7, 3) := dk_153 0 7 (dk_at dksX1_asInt_0 1 rfl rfl)
theorem dX1_asInt_4 : decode cX1_asInt 4 = .ok (.iconst 1, 1) := dk_4 (dk_at dksX1_asInt_0 4 rfl rfl)
theorem dX1_asInt_5 : decode cX1_asInt 5 = .ok (.goto 4, 3) := dk_167 0 4 (dk_at dksX1_asInt_0 5 rfl rfl)
theorem dX1_asInt_8 : decode cX1_asInt 8 = .ok (.iconst 0, 1) := dk_3 (dk_at dksX1_asInt_0 8 rfl rfl)
theorem dX1_asInt_9 : decode cX1_asInt 9 = .ok (.ireturn, 1) := dk_172 (dk_at dksX1_asInt_0 9 rfl rfl)
def dkwX1_habitCount_0 : List UInt8 := [42, 180, 0, 69, 180, 0, 129, 182, 0, 91, 172]
abbrev dktX1_habitCount_0 : List UInt8 := dkwX1_habitCount_0 ++ []
theorem dksX1_habitCount_0 : cX1_habitCount.data.toList.drop 0 = dktX1_habitCount_0 := by decide +kernel
theorem dX1_habitCount_0 : decode cX1_habitCount 0 = .ok (.aload_n 0, 1) := dk_42 (dk_at dksX1_habitCount_0 0 rfl rfl)
theorem dX1_habitCount_1 : decode cX1_habitCount 1 = .ok (.getfield 69, 3) := dk_180 0 69 (dk_at dksX1_habitCount_0 1 rfl rfl)
theorem dX1_habitCount_4 : decode cX1_habitCount 4 = .ok (.getfield 129, 3) := dk_180 0 129 (dk_at dksX1_habitCount_0 4 rfl rfl)
theorem dX1_habitCount_7 : decode cX1_habitCount 7 = .ok (.invokevirtual 91, 3) := dk_182 0 91 (dk_at dksX1_habitCount_0 7 rfl rfl)
theorem dX1_habitCount_10 : decode cX1_habitCount 10 = .ok (.ireturn, 1) := dk_172 (dk_at dksX1_habitCount_0 10 rfl rfl)
def dkwX1_year_0 : List UInt8 := [42, 180, 0, 69, 180, 1, 16, 172]
abbrev dktX1_year_0 : List UInt8 := dkwX1_year_0 ++ []
theorem dksX1_year_0 : cX1_year.data.toList.drop 0 = dktX1_year_0 := by decide +kernel
theorem dX1_year_0 : decode cX1_year 0 = .ok (.aload_n 0, 1) := dk_42 (dk_at dksX1_year_0 0 rfl rfl)
theorem dX1_year_1 : decode cX1_year 1 = .ok (.getfield 69, 3) := dk_180 0 69 (dk_at dksX1_year_0 1 rfl rfl)
theorem dX1_year_4 : decode cX1_year 4 = .ok (.getfield 272, 3) := dk_180 1 16 (dk_at dksX1_year_0 4 rfl rfl)
theorem dX1_year_7 : decode cX1_year 7 = .ok (.ireturn, 1) := dk_172 (dk_at dksX1_year_0 7 rfl rfl)
def dkwX1_lapsedCount_0 : List UInt8 := [42, 180, 0, 69, 180, 1, 23, 172]
abbrev dktX1_lapsedCount_0 : List UInt8 := dkwX1_lapsedCount_0 ++ []
theorem dksX1_lapsedCount_0 : cX1_lapsedCount.data.toList.drop 0 = dktX1_lapsedCount_0 := by decide +kernel
theorem dX1_lapsedCount_0 : decode cX1_lapsedCount 0 = .ok (.aload_n 0, 1) := dk_42 (dk_at dksX1_lapsedCount_0 0 rfl rfl)
theorem dX1_lapsedCount_1 : decode cX1_lapsedCount 1 = .ok (.getfield 69, 3) := dk_180 0 69 (dk_at dksX1_lapsedCount_0 1 rfl rfl)
theorem dX1_lapsedCount_4 : decode cX1_lapsedCount 4 = .ok (.getfield 279, 3) := dk_180 1 23 (dk_at dksX1_lapsedCount_0 4 rfl rfl)
theorem dX1_lapsedCount_7 : decode cX1_lapsedCount 7 = .ok (.ireturn, 1) := dk_172 (dk_at dksX1_lapsedCount_0 7 rfl rfl)
def dkwX1_mergedCount_0 : List UInt8 := [42, 180, 0, 69, 180, 1, 26, 172]
abbrev dktX1_mergedCount_0 : List UInt8 := dkwX1_mergedCount_0 ++ []
theorem dksX1_mergedCount_0 : cX1_mergedCount.data.toList.drop 0 = dktX1_mergedCount_0 := by decide +kernel
theorem dX1_mergedCount_0 : decode cX1_mergedCount 0 = .ok (.aload_n 0, 1) := dk_42 (dk_at dksX1_mergedCount_0 0 rfl rfl)
theorem dX1_mergedCount_1 : decode cX1_mergedCount 1 = .ok (.getfield 69, 3) := dk_180 0 69 (dk_at dksX1_mergedCount_0 1 rfl rfl)
theorem dX1_mergedCount_4 : decode cX1_mergedCount 4 = .ok (.getfield 282, 3) := dk_180 1 26 (dk_at dksX1_mergedCount_0 4 rfl rfl)
theorem dX1_mergedCount_7 : decode cX1_mergedCount 7 = .ok (.ireturn, 1) := dk_172 (dk_at dksX1_mergedCount_0 7 rfl rfl)
def dkwX1_brokenCount_0 : List UInt8 := [42, 180, 0, 69, 180, 1, 29, 172]
abbrev dktX1_brokenCount_0 : List UInt8 := dkwX1_brokenCount_0 ++ []
theorem dksX1_brokenCount_0 : cX1_brokenCount.data.toList.drop 0 = dktX1_brokenCount_0 := by decide +kernel
theorem dX1_brokenCount_0 : decode cX1_brokenCount 0 = .ok (.aload_n 0, 1) := dk_42 (dk_at dksX1_brokenCount_0 0 rfl rfl)
theorem dX1_brokenCount_1 : decode cX1_brokenCount 1 = .ok (.getfield 69, 3) := dk_180 0 69 (dk_at dksX1_brokenCount_0 1 rfl rfl)
theorem dX1_brokenCount_4 : decode cX1_brokenCount 4 = .ok (.getfield 285, 3) := dk_180 1 29 (dk_at dksX1_brokenCount_0 4 rfl rfl)
theorem dX1_brokenCount_7 : decode cX1_brokenCount 7 = .ok (.ireturn, 1) := dk_172 (dk_at dksX1_brokenCount_0 7 rfl rfl)
def dkwX1_totalStrength_0 : List UInt8 := [42, 180, 0, 69, 42, 180, 0, 69, 180, 1, 32, 42, 180, 0, 69, 180, 1, 36, 182, 1, 39, 172]
abbrev dktX1_totalStrength_0 : List UInt8 := dkwX1_totalStrength_0 ++ []
theorem dksX1_totalStrength_0 : cX1_totalStrength.data.toList.drop 0 = dktX1_totalStrength_0 := by decide +kernel
theorem dX1_totalStrength_0 : decode cX1_totalStrength 0 = .ok (.aload_n 0, 1) := dk_42 (dk_at dksX1_totalStrength_0 0 rfl rfl)
theorem dX1_totalStrength_1 : decode cX1_totalStrength 1 = .ok (.getfield 69, 3) := dk_180 0 69 (dk_at dksX1_totalStrength_0 1 rfl rfl)
theorem dX1_totalStrength_4 : decode cX1_totalStrength 4 = .ok (.aload_n 0, 1) := dk_42 (dk_at dksX1_totalStrength_0 4 rfl rfl)
theorem dX1_totalStrength_5 : decode cX1_totalStrength 5 = .ok (.getfield 69, 3) := dk_180 0 69 (dk_at dksX1_totalStrength_0 5 rfl rfl)
theorem dX1_totalStrength_8 : decode cX1_totalStrength 8 = .ok (.getfield 288, 3) := dk_180 1 32 (dk_at dksX1_totalStrength_0 8 rfl rfl)
theorem dX1_totalStrength_11 : decode cX1_totalStrength 11 = .ok (.aload_n 0, 1) := dk_42 (dk_at dksX1_totalStrength_0 11 rfl rfl)
theorem dX1_totalStrength_12 : decode cX1_totalStrength 12 = .ok (.getfield 69, 3) := dk_180 0 69 (dk_at dksX1_totalStrength_0 12 rfl rfl)
theorem dX1_totalStrength_15 : decode cX1_totalStrength 15 = .ok (.getfield 292, 3) := dk_180 1 36 (dk_at dksX1_totalStrength_0 15 rfl rfl)
theorem dX1_totalStrength_18 : decode cX1_totalStrength 18 = .ok (.invokevirtual 295, 3) := dk_182 1 39 (dk_at dksX1_totalStrength_0 18 rfl rfl)
theorem dX1_totalStrength_21 : decode cX1_totalStrength 21 = .ok (.ireturn, 1) := dk_172 (dk_at dksX1_totalStrength_0 21 rfl rfl)
def dkwX1_totalStrengthByPeople_0 : List UInt8 := [42, 180, 0, 69, 182, 1, 43, 172]
abbrev dktX1_totalStrengthByPeople_0 : List UInt8 := dkwX1_totalStrengthByPeople_0 ++ []
theorem dksX1_totalStrengthByPeople_0 : cX1_totalStrengthByPeople.data.toList.drop 0 = dktX1_totalStrengthByPeople_0 := by decide +kernel
theorem dX1_totalStrengthByPeople_0 : decode cX1_totalStrengthByPeople 0 = .ok (.aload_n 0, 1) := dk_42 (dk_at dksX1_totalStrengthByPeople_0 0 rfl rfl)
theorem dX1_totalStrengthByPeople_1 : decode cX1_totalStrengthByPeople 1 = .ok (.getfield 69, 3) := dk_180 0 69 (dk_at dksX1_totalStrengthByPeople_0 1 rfl rfl)
theorem dX1_totalStrengthByPeople_4 : decode cX1_totalStrengthByPeople 4 = .ok (.invokevirtual 299, 3) := dk_182 1 43 (dk_at dksX1_totalStrengthByPeople_0 4 rfl rfl)
theorem dX1_totalStrengthByPeople_7 : decode cX1_totalStrengthByPeople 7 = .ok (.ireturn, 1) := dk_172 (dk_at dksX1_totalStrengthByPeople_0 7 rfl rfl)
def dkwX1_isConsistent_0 : List UInt8 := [42, 180, 0, 69, 182, 1, 67, 172]
abbrev dktX1_isConsistent_0 : List UInt8 := dkwX1_isConsistent_0 ++ []
theorem dksX1_isConsistent_0 : cX1_isConsistent.data.toList.drop 0 = dktX1_isConsistent_0 := by decide +kernel
theorem dX1_isConsistent_0 : decode cX1_isConsistent 0 = .ok (.aload_n 0, 1) := dk_42 (dk_at dksX1_isConsistent_0 0 rfl rfl)
theorem dX1_isConsistent_1 : decode cX1_isConsistent 1 = .ok (.getfield 69, 3) := dk_180 0 69 (dk_at dksX1_isConsistent_0 1 rfl rfl)
theorem dX1_isConsistent_4 : decode cX1_isConsistent 4 = .ok (.invokevirtual 323, 3) := dk_182 1 67 (dk_at dksX1_isConsistent_0 4 rfl rfl)
theorem dX1_isConsistent_7 : decode cX1_isConsistent 7 = .ok (.ireturn, 1) := dk_172 (dk_at dksX1_isConsistent_0 7 rfl rfl)
def dkwX1_undoCount_0 : List UInt8 := [42, 180, 0, 74, 182, 0, 91, 172]
abbrev dktX1_undoCount_0 : List UInt8 := dkwX1_undoCount_0 ++ []
theorem dksX1_undoCount_0 : cX1_undoCount.data.toList.drop 0 = dktX1_undoCount_0 := by decide +kernel
theorem dX1_undoCount_0 : decode cX1_undoCount 0 = .ok (.aload_n 0, 1) := dk_42 (dk_at dksX1_undoCount_0 0 rfl rfl)
theorem dX1_undoCount_1 : decode cX1_undoCount 1 = .ok (.getfield 74, 3) := dk_180 0 74 (dk_at dksX1_undoCount_0 1 rfl rfl)
theorem dX1_undoCount_4 : decode cX1_undoCount 4 = .ok (.invokevirtual 91, 3) := dk_182 0 91 (dk_at dksX1_undoCount_0 4 rfl rfl)
theorem dX1_undoCount_7 : decode cX1_undoCount 7 = .ok (.ireturn, 1) := dk_172 (dk_at dksX1_undoCount_0 7 rfl rfl)
def dkwX1_saveSnapshot_0 : List UInt8 := [42, 42, 180, 0, 69, 182, 0, 141, 181, 1, 131, 42, 180, 1, 131, 180, 0, 118, 182, 0, 91, 172]
abbrev dktX1_saveSnapshot_0 : List UInt8 := dkwX1_saveSnapshot_0 ++ []
theorem dksX1_saveSnapshot_0 : cX1_saveSnapshot.data.toList.drop 0 = dktX1_saveSnapshot_0 := by decide +kernel
theorem dX1_saveSnapshot_0 : decode cX1_saveSnapshot 0 = .ok (.aload_n 0, 1) := dk_42 (dk_at dksX1_saveSnapshot_0 0 rfl rfl)
theorem dX1_saveSnapshot_1 : decode cX1_saveSnapshot 1 = .ok (.aload_n 0, 1) := dk_42 (dk_at dksX1_saveSnapshot_0 1 rfl rfl)
theorem dX1_saveSnapshot_2 : decode cX1_saveSnapshot 2 = .ok (.getfield 69, 3) := dk_180 0 69 (dk_at dksX1_saveSnapshot_0 2 rfl rfl)
theorem dX1_saveSnapshot_5 : decode cX1_saveSnapshot 5 = .ok (.invokevirtual 141, 3) := dk_182 0 141 (dk_at dksX1_saveSnapshot_0 5 rfl rfl)
theorem dX1_saveSnapshot_8 : decode cX1_saveSnapshot 8 = .ok (.putfield 387, 3) := dk_181 1 131 (dk_at dksX1_saveSnapshot_0 8 rfl rfl)
theorem dX1_saveSnapshot_11 : decode cX1_saveSnapshot 11 = .ok (.aload_n 0, 1) := dk_42 (dk_at dksX1_saveSnapshot_0 11 rfl rfl)
theorem dX1_saveSnapshot_12 : decode cX1_saveSnapshot 12 = .ok (.getfield 387, 3) := dk_180 1 131 (dk_at dksX1_saveSnapshot_0 12 rfl rfl)
theorem dX1_saveSnapshot_15 : decode cX1_saveSnapshot 15 = .ok (.getfield 118, 3) := dk_180 0 118 (dk_at dksX1_saveSnapshot_0 15 rfl rfl)
theorem dX1_saveSnapshot_18 : decode cX1_saveSnapshot 18 = .ok (.invokevirtual 91, 3) := dk_182 0 91 (dk_at dksX1_saveSnapshot_0 18 rfl rfl)
theorem dX1_saveSnapshot_21 : decode cX1_saveSnapshot 21 = .ok (.ireturn, 1) := dk_172 (dk_at dksX1_saveSnapshot_0 21 rfl rfl)
def dkwX1_addFounder_0 : List UInt8 := [42, 16, 102, 2, 2, 16, 102, 182, 0, 165, 172]
abbrev dktX1_addFounder_0 : List UInt8 := dkwX1_addFounder_0 ++ []
theorem dksX1_addFounder_0 : cX1_addFounder.data.toList.drop 0 = dktX1_addFounder_0 := by decide +kernel
theorem dX1_addFounder_0 : decode cX1_addFounder 0 = .ok (.aload_n 0, 1) := dk_42 (dk_at dksX1_addFounder_0 0 rfl rfl)
theorem dX1_addFounder_1 : decode cX1_addFounder 1 = .ok (.bipush 102, 2) := dk_16 102 (dk_at dksX1_addFounder_0 1 rfl rfl)
theorem dX1_addFounder_3 : decode cX1_addFounder 3 = .ok (.iconst (-1), 1) := dk_2 (dk_at dksX1_addFounder_0 3 rfl rfl)
theorem dX1_addFounder_4 : decode cX1_addFounder 4 = .ok (.iconst (-1), 1) := dk_2 (dk_at dksX1_addFounder_0 4 rfl rfl)
theorem dX1_addFounder_5 : decode cX1_addFounder 5 = .ok (.bipush 102, 2) := dk_16 102 (dk_at dksX1_addFounder_0 5 rfl rfl)
theorem dX1_addFounder_7 : decode cX1_addFounder 7 = .ok (.invokevirtual 165, 3) := dk_182 0 165 (dk_at dksX1_addFounder_0 7 rfl rfl)
theorem dX1_addFounder_10 : decode cX1_addFounder 10 = .ok (.ireturn, 1) := dk_172 (dk_at dksX1_addFounder_0 10 rfl rfl)
def dkwX1_change_2 : List UInt8 := [58, 6, 187, 0, 21, 89, 183, 0, 23, 191]
abbrev dktX1_change_2 : List UInt8 := dkwX1_change_2 ++ []
def dkwX1_change_1 : List UInt8 := [182, 0, 56, 54, 6, 42, 25, 5, 21, 6, 182, 0, 148, 172, 58, 6, 42, 25, 6, 182, 0, 152, 191]
abbrev dktX1_change_1 : List UInt8 := dkwX1_change_1 ++ dktX1_change_2
def dkwX1_change_0 : List UInt8 := [42, 180, 0, 69, 182, 0, 141, 58, 5, 187, 0, 54, 89, 27, 28, 29, 21, 4, 183, 0, 145, 25, 5]
abbrev dktX1_change_0 : List UInt8 := dkwX1_change_0 ++ dktX1_change_1
theorem dksX1_change_0 : cX1_change.data.toList.drop 0 = dktX1_change_0 := by decide +kernel
theorem dksX1_change_1 : cX1_change.data.toList.drop 23 = dktX1_change_1 := dk_seg dksX1_change_0 23 rfl rfl
theorem dksX1_change_2 : cX1_change.data.toList.drop 46 = dktX1_change_2 := dk_seg dksX1_change_1 23 rfl rfl
theorem dX1_change_0 : decode cX1_change 0 = .ok (.aload_n 0, 1) := dk_42 (dk_at dksX1_change_0 0 rfl rfl)
theorem dX1_change_1 : decode cX1_change 1 = .ok (.getfield 69, 3) := dk_180 0 69 (dk_at dksX1_change_0 1 rfl rfl)
theorem dX1_change_4 : decode cX1_change 4 = .ok (.invokevirtual 141, 3) := dk_182 0 141 (dk_at dksX1_change_0 4 rfl rfl)
theorem dX1_change_7 : decode cX1_change 7 = .ok (.astore 5, 2) := dk_58 5 (dk_at dksX1_change_0 7 rfl rfl)
theorem dX1_change_9 : decode cX1_change 9 = .ok (.new 54, 3) := dk_187 0 54 (dk_at dksX1_change_0 9 rfl rfl)
theorem dX1_change_12 : decode cX1_change 12 = .ok (.dup, 1) := dk_89 (dk_at dksX1_change_0 12 rfl rfl)
theorem dX1_change_13 : decode cX1_change 13 = .ok (.iload_n 1, 1) := dk_27 (dk_at dksX1_change_0 13 rfl rfl)
theorem dX1_change_14 : decode cX1_change 14 = .ok (.iload_n 2, 1) := dk_28 (dk_at dksX1_change_0 14 rfl rfl)
theorem dX1_change_15 : decode cX1_change 15 = .ok (.iload_n 3, 1) := dk_29 (dk_at dksX1_change_0 15 rfl rfl)
theorem dX1_change_16 : decode cX1_change 16 = .ok (.iload 4, 2) := dk_21 4 (dk_at dksX1_change_0 16 rfl rfl)
theorem dX1_change_18 : decode cX1_change 18 = .ok (.invokespecial 145, 3) := dk_183 0 145 (dk_at dksX1_change_0 18 rfl rfl)
theorem dX1_change_21 : decode cX1_change 21 = .ok (.aload 5, 2) := dk_25 5 (dk_at dksX1_change_0 21 rfl rfl)
theorem dX1_change_23 : decode cX1_change 23 = .ok (.invokevirtual 56, 3) := dk_182 0 56 (dk_at dksX1_change_1 0 rfl rfl)
theorem dX1_change_26 : decode cX1_change 26 = .ok (.istore 6, 2) := dk_54 6 (dk_at dksX1_change_1 3 rfl rfl)
theorem dX1_change_28 : decode cX1_change 28 = .ok (.aload_n 0, 1) := dk_42 (dk_at dksX1_change_1 5 rfl rfl)
theorem dX1_change_29 : decode cX1_change 29 = .ok (.aload 5, 2) := dk_25 5 (dk_at dksX1_change_1 6 rfl rfl)
theorem dX1_change_31 : decode cX1_change 31 = .ok (.iload 6, 2) := dk_21 6 (dk_at dksX1_change_1 8 rfl rfl)
theorem dX1_change_33 : decode cX1_change 33 = .ok (.invokevirtual 148, 3) := dk_182 0 148 (dk_at dksX1_change_1 10 rfl rfl)
theorem dX1_change_36 : decode cX1_change 36 = .ok (.ireturn, 1) := dk_172 (dk_at dksX1_change_1 13 rfl rfl)
theorem dX1_change_37 : decode cX1_change 37 = .ok (.astore 6, 2) := dk_58 6 (dk_at dksX1_change_1 14 rfl rfl)
theorem dX1_change_39 : decode cX1_change 39 = .ok (.aload_n 0, 1) := dk_42 (dk_at dksX1_change_1 16 rfl rfl)
theorem dX1_change_40 : decode cX1_change 40 = .ok (.aload 6, 2) := dk_25 6 (dk_at dksX1_change_1 17 rfl rfl)
theorem dX1_change_42 : decode cX1_change 42 = .ok (.invokevirtual 152, 3) := dk_182 0 152 (dk_at dksX1_change_1 19 rfl rfl)
theorem dX1_change_45 : decode cX1_change 45 = .ok (.athrow, 1) := dk_191 (dk_at dksX1_change_1 22 rfl rfl)
theorem dX1_change_46 : decode cX1_change 46 = .ok (.astore 6, 2) := dk_58 6 (dk_at dksX1_change_2 0 rfl rfl)
theorem dX1_change_48 : decode cX1_change 48 = .ok (.new 21, 3) := dk_187 0 21 (dk_at dksX1_change_2 2 rfl rfl)
theorem dX1_change_51 : decode cX1_change 51 = .ok (.dup, 1) := dk_89 (dk_at dksX1_change_2 5 rfl rfl)
theorem dX1_change_52 : decode cX1_change 52 = .ok (.invokespecial 23, 3) := dk_183 0 23 (dk_at dksX1_change_2 6 rfl rfl)
theorem dX1_change_55 : decode cX1_change 55 = .ok (.athrow, 1) := dk_191 (dk_at dksX1_change_2 9 rfl rfl)
def dkwX1_isBetween_0 : List UInt8 := [26, 27, 161, 0, 12, 26, 28, 163, 0, 7, 4, 167, 0, 4, 3, 172]
abbrev dktX1_isBetween_0 : List UInt8 := dkwX1_isBetween_0 ++ []
theorem dksX1_isBetween_0 : cX1_isBetween.data.toList.drop 0 = dktX1_isBetween_0 := by decide +kernel
theorem dX1_isBetween_0 : decode cX1_isBetween 0 = .ok (.iload_n 0, 1) := dk_26 (dk_at dksX1_isBetween_0 0 rfl rfl)
theorem dX1_isBetween_1 : decode cX1_isBetween 1 = .ok (.iload_n 1, 1) := dk_27 (dk_at dksX1_isBetween_0 1 rfl rfl)
theorem dX1_isBetween_2 : decode cX1_isBetween 2 = .ok (.if_icmp .lt 12, 3) := dk_161 0 12 (dk_at dksX1_isBetween_0 2 rfl rfl)
theorem dX1_isBetween_5 : decode cX1_isBetween 5 = .ok (.iload_n 0, 1) := dk_26 (dk_at dksX1_isBetween_0 5 rfl rfl)
theorem dX1_isBetween_6 : decode cX1_isBetween 6 = .ok (.iload_n 2, 1) := dk_28 (dk_at dksX1_isBetween_0 6 rfl rfl)
theorem dX1_isBetween_7 : decode cX1_isBetween 7 = .ok (.if_icmp .gt 7, 3) := dk_163 0 7 (dk_at dksX1_isBetween_0 7 rfl rfl)
theorem dX1_isBetween_10 : decode cX1_isBetween 10 = .ok (.iconst 1, 1) := dk_4 (dk_at dksX1_isBetween_0 10 rfl rfl)
theorem dX1_isBetween_11 : decode cX1_isBetween 11 = .ok (.goto 4, 3) := dk_167 0 4 (dk_at dksX1_isBetween_0 11 rfl rfl)
theorem dX1_isBetween_14 : decode cX1_isBetween 14 = .ok (.iconst 0, 1) := dk_3 (dk_at dksX1_isBetween_0 14 rfl rfl)
theorem dX1_isBetween_15 : decode cX1_isBetween 15 = .ok (.ireturn, 1) := dk_172 (dk_at dksX1_isBetween_0 15 rfl rfl)
def dkwX1_isStrength_0 : List UInt8 := [26, 4, 16, 9, 184, 0, 11, 172]
abbrev dktX1_isStrength_0 : List UInt8 := dkwX1_isStrength_0 ++ []
theorem dksX1_isStrength_0 : cX1_isStrength.data.toList.drop 0 = dktX1_isStrength_0 := by decide +kernel
theorem dX1_isStrength_0 : decode cX1_isStrength 0 = .ok (.iload_n 0, 1) := dk_26 (dk_at dksX1_isStrength_0 0 rfl rfl)
theorem dX1_isStrength_1 : decode cX1_isStrength 1 = .ok (.iconst 1, 1) := dk_4 (dk_at dksX1_isStrength_0 1 rfl rfl)
theorem dX1_isStrength_2 : decode cX1_isStrength 2 = .ok (.bipush 9, 2) := dk_16 9 (dk_at dksX1_isStrength_0 2 rfl rfl)
theorem dX1_isStrength_4 : decode cX1_isStrength 4 = .ok (.invokestatic 11, 3) := dk_184 0 11 (dk_at dksX1_isStrength_0 4 rfl rfl)
theorem dX1_isStrength_7 : decode cX1_isStrength 7 = .ok (.ireturn, 1) := dk_172 (dk_at dksX1_isStrength_0 7 rfl rfl)
def dkwX1_areYears_0 : List UInt8 := [26, 4, 16, 9, 184, 0, 11, 172]
abbrev dktX1_areYears_0 : List UInt8 := dkwX1_areYears_0 ++ []
theorem dksX1_areYears_0 : cX1_areYears.data.toList.drop 0 = dktX1_areYears_0 := by decide +kernel
theorem dX1_areYears_0 : decode cX1_areYears 0 = .ok (.iload_n 0, 1) := dk_26 (dk_at dksX1_areYears_0 0 rfl rfl)
theorem dX1_areYears_1 : decode cX1_areYears 1 = .ok (.iconst 1, 1) := dk_4 (dk_at dksX1_areYears_0 1 rfl rfl)
theorem dX1_areYears_2 : decode cX1_areYears 2 = .ok (.bipush 9, 2) := dk_16 9 (dk_at dksX1_areYears_0 2 rfl rfl)
theorem dX1_areYears_4 : decode cX1_areYears 4 = .ok (.invokestatic 11, 3) := dk_184 0 11 (dk_at dksX1_areYears_0 4 rfl rfl)
theorem dX1_areYears_7 : decode cX1_areYears 7 = .ok (.ireturn, 1) := dk_172 (dk_at dksX1_areYears_0 7 rfl rfl)
def dkwX1_rejectIf_0 : List UInt8 := [26, 153, 0, 13, 187, 0, 33, 89, 27, 28, 183, 0, 35, 191, 177]
abbrev dktX1_rejectIf_0 : List UInt8 := dkwX1_rejectIf_0 ++ []
theorem dksX1_rejectIf_0 : cX1_rejectIf.data.toList.drop 0 = dktX1_rejectIf_0 := by decide +kernel
theorem dX1_rejectIf_0 : decode cX1_rejectIf 0 = .ok (.iload_n 0, 1) := dk_26 (dk_at dksX1_rejectIf_0 0 rfl rfl)
theorem dX1_rejectIf_1 : decode cX1_rejectIf 1 = .ok (.ifCond .eq 13, 3) := dk_153 0 13 (dk_at dksX1_rejectIf_0 1 rfl rfl)
theorem dX1_rejectIf_4 : decode cX1_rejectIf 4 = .ok (.new 33, 3) := dk_187 0 33 (dk_at dksX1_rejectIf_0 4 rfl rfl)
theorem dX1_rejectIf_7 : decode cX1_rejectIf 7 = .ok (.dup, 1) := dk_89 (dk_at dksX1_rejectIf_0 7 rfl rfl)
theorem dX1_rejectIf_8 : decode cX1_rejectIf 8 = .ok (.iload_n 1, 1) := dk_27 (dk_at dksX1_rejectIf_0 8 rfl rfl)
theorem dX1_rejectIf_9 : decode cX1_rejectIf 9 = .ok (.iload_n 2, 1) := dk_28 (dk_at dksX1_rejectIf_0 9 rfl rfl)
theorem dX1_rejectIf_10 : decode cX1_rejectIf 10 = .ok (.invokespecial 35, 3) := dk_183 0 35 (dk_at dksX1_rejectIf_0 10 rfl rfl)
theorem dX1_rejectIf_13 : decode cX1_rejectIf 13 = .ok (.athrow, 1) := dk_191 (dk_at dksX1_rejectIf_0 13 rfl rfl)
theorem dX1_rejectIf_14 : decode cX1_rejectIf 14 = .ok (.return_, 1) := dk_177 (dk_at dksX1_rejectIf_0 14 rfl rfl)
def dkwX1_commit_1 : List UInt8 := [180, 0, 74, 42, 180, 0, 69, 182, 0, 99, 87, 42, 43, 181, 0, 69, 28, 172]
abbrev dktX1_commit_1 : List UInt8 := dkwX1_commit_1 ++ []
def dkwX1_commit_0 : List UInt8 := [42, 180, 0, 74, 182, 0, 91, 16, 8, 160, 0, 12, 42, 180, 0, 74, 3, 182, 0, 95, 87, 42]
abbrev dktX1_commit_0 : List UInt8 := dkwX1_commit_0 ++ dktX1_commit_1
theorem dksX1_commit_0 : cX1_commit.data.toList.drop 0 = dktX1_commit_0 := by decide +kernel
theorem dksX1_commit_1 : cX1_commit.data.toList.drop 22 = dktX1_commit_1 := dk_seg dksX1_commit_0 22 rfl rfl
theorem dX1_commit_0 : decode cX1_commit 0 = .ok (.aload_n 0, 1) := dk_42 (dk_at dksX1_commit_0 0 rfl rfl)
theorem dX1_commit_1 : decode cX1_commit 1 = .ok (.getfield 74, 3) := dk_180 0 74 (dk_at dksX1_commit_0 1 rfl rfl)
theorem dX1_commit_4 : decode cX1_commit 4 = .ok (.invokevirtual 91, 3) := dk_182 0 91 (dk_at dksX1_commit_0 4 rfl rfl)
theorem dX1_commit_7 : decode cX1_commit 7 = .ok (.bipush 8, 2) := dk_16 8 (dk_at dksX1_commit_0 7 rfl rfl)
theorem dX1_commit_9 : decode cX1_commit 9 = .ok (.if_icmp .ne 12, 3) := dk_160 0 12 (dk_at dksX1_commit_0 9 rfl rfl)
theorem dX1_commit_12 : decode cX1_commit 12 = .ok (.aload_n 0, 1) := dk_42 (dk_at dksX1_commit_0 12 rfl rfl)
theorem dX1_commit_13 : decode cX1_commit 13 = .ok (.getfield 74, 3) := dk_180 0 74 (dk_at dksX1_commit_0 13 rfl rfl)
theorem dX1_commit_16 : decode cX1_commit 16 = .ok (.iconst 0, 1) := dk_3 (dk_at dksX1_commit_0 16 rfl rfl)
theorem dX1_commit_17 : decode cX1_commit 17 = .ok (.invokevirtual 95, 3) := dk_182 0 95 (dk_at dksX1_commit_0 17 rfl rfl)
theorem dX1_commit_20 : decode cX1_commit 20 = .ok (.pop, 1) := dk_87 (dk_at dksX1_commit_0 20 rfl rfl)
theorem dX1_commit_21 : decode cX1_commit 21 = .ok (.aload_n 0, 1) := dk_42 (dk_at dksX1_commit_0 21 rfl rfl)
theorem dX1_commit_22 : decode cX1_commit 22 = .ok (.getfield 74, 3) := dk_180 0 74 (dk_at dksX1_commit_1 0 rfl rfl)
theorem dX1_commit_25 : decode cX1_commit 25 = .ok (.aload_n 0, 1) := dk_42 (dk_at dksX1_commit_1 3 rfl rfl)
theorem dX1_commit_26 : decode cX1_commit 26 = .ok (.getfield 69, 3) := dk_180 0 69 (dk_at dksX1_commit_1 4 rfl rfl)
theorem dX1_commit_29 : decode cX1_commit 29 = .ok (.invokevirtual 99, 3) := dk_182 0 99 (dk_at dksX1_commit_1 7 rfl rfl)
theorem dX1_commit_32 : decode cX1_commit 32 = .ok (.pop, 1) := dk_87 (dk_at dksX1_commit_1 10 rfl rfl)
theorem dX1_commit_33 : decode cX1_commit 33 = .ok (.aload_n 0, 1) := dk_42 (dk_at dksX1_commit_1 11 rfl rfl)
theorem dX1_commit_34 : decode cX1_commit 34 = .ok (.aload_n 1, 1) := dk_43 (dk_at dksX1_commit_1 12 rfl rfl)
theorem dX1_commit_35 : decode cX1_commit 35 = .ok (.putfield 69, 3) := dk_181 0 69 (dk_at dksX1_commit_1 13 rfl rfl)
theorem dX1_commit_38 : decode cX1_commit 38 = .ok (.iload_n 2, 1) := dk_28 (dk_at dksX1_commit_1 16 rfl rfl)
theorem dX1_commit_39 : decode cX1_commit 39 = .ok (.ireturn, 1) := dk_172 (dk_at dksX1_commit_1 17 rfl rfl)
def dkwX1_rejected_0 : List UInt8 := [42, 43, 181, 0, 103, 187, 0, 107, 89, 183, 0, 109, 176]
abbrev dktX1_rejected_0 : List UInt8 := dkwX1_rejected_0 ++ []
theorem dksX1_rejected_0 : cX1_rejected.data.toList.drop 0 = dktX1_rejected_0 := by decide +kernel
theorem dX1_rejected_0 : decode cX1_rejected 0 = .ok (.aload_n 0, 1) := dk_42 (dk_at dksX1_rejected_0 0 rfl rfl)
theorem dX1_rejected_1 : decode cX1_rejected 1 = .ok (.aload_n 1, 1) := dk_43 (dk_at dksX1_rejected_0 1 rfl rfl)
theorem dX1_rejected_2 : decode cX1_rejected 2 = .ok (.putfield 103, 3) := dk_181 0 103 (dk_at dksX1_rejected_0 2 rfl rfl)
theorem dX1_rejected_5 : decode cX1_rejected 5 = .ok (.new 107, 3) := dk_187 0 107 (dk_at dksX1_rejected_0 5 rfl rfl)
theorem dX1_rejected_8 : decode cX1_rejected 8 = .ok (.dup, 1) := dk_89 (dk_at dksX1_rejected_0 8 rfl rfl)
theorem dX1_rejected_9 : decode cX1_rejected 9 = .ok (.invokespecial 109, 3) := dk_183 0 109 (dk_at dksX1_rejected_0 9 rfl rfl)
theorem dX1_rejected_12 : decode cX1_rejected 12 = .ok (.areturn, 1) := dk_176 (dk_at dksX1_rejected_0 12 rfl rfl)
def dkwX1_addChild_0 : List UInt8 := [42, 180, 0, 69, 27, 182, 0, 110, 184, 0, 114, 42, 16, 99, 27, 2, 16, 99, 182, 0, 165, 172]
abbrev dktX1_addChild_0 : List UInt8 := dkwX1_addChild_0 ++ []
theorem dksX1_addChild_0 : cX1_addChild.data.toList.drop 0 = dktX1_addChild_0 := by decide +kernel
theorem dX1_addChild_0 : decode cX1_addChild 0 = .ok (.aload_n 0, 1) := dk_42 (dk_at dksX1_addChild_0 0 rfl rfl)
theorem dX1_addChild_1 : decode cX1_addChild 1 = .ok (.getfield 69, 3) := dk_180 0 69 (dk_at dksX1_addChild_0 1 rfl rfl)
theorem dX1_addChild_4 : decode cX1_addChild 4 = .ok (.iload_n 1, 1) := dk_27 (dk_at dksX1_addChild_0 4 rfl rfl)
theorem dX1_addChild_5 : decode cX1_addChild 5 = .ok (.invokevirtual 110, 3) := dk_182 0 110 (dk_at dksX1_addChild_0 5 rfl rfl)
theorem dX1_addChild_8 : decode cX1_addChild 8 = .ok (.invokestatic 114, 3) := dk_184 0 114 (dk_at dksX1_addChild_0 8 rfl rfl)
theorem dX1_addChild_11 : decode cX1_addChild 11 = .ok (.aload_n 0, 1) := dk_42 (dk_at dksX1_addChild_0 11 rfl rfl)
theorem dX1_addChild_12 : decode cX1_addChild 12 = .ok (.bipush 99, 2) := dk_16 99 (dk_at dksX1_addChild_0 12 rfl rfl)
theorem dX1_addChild_14 : decode cX1_addChild 14 = .ok (.iload_n 1, 1) := dk_27 (dk_at dksX1_addChild_0 14 rfl rfl)
theorem dX1_addChild_15 : decode cX1_addChild 15 = .ok (.iconst (-1), 1) := dk_2 (dk_at dksX1_addChild_0 15 rfl rfl)
theorem dX1_addChild_16 : decode cX1_addChild 16 = .ok (.bipush 99, 2) := dk_16 99 (dk_at dksX1_addChild_0 16 rfl rfl)
theorem dX1_addChild_18 : decode cX1_addChild 18 = .ok (.invokevirtual 165, 3) := dk_182 0 165 (dk_at dksX1_addChild_0 18 rfl rfl)
theorem dX1_addChild_21 : decode cX1_addChild 21 = .ok (.ireturn, 1) := dk_172 (dk_at dksX1_addChild_0 21 rfl rfl)
def dkwX1_requireIndex_0 : List UInt8 := [26, 154, 0, 11, 187, 0, 15, 89, 183, 0, 17, 191, 177]
abbrev dktX1_requireIndex_0 : List UInt8 := dkwX1_requireIndex_0 ++ []
theorem dksX1_requireIndex_0 : cX1_requireIndex.data.toList.drop 0 = dktX1_requireIndex_0 := by decide +kernel
theorem dX1_requireIndex_0 : decode cX1_requireIndex 0 = .ok (.iload_n 0, 1) := dk_26 (dk_at dksX1_requireIndex_0 0 rfl rfl)
theorem dX1_requireIndex_1 : decode cX1_requireIndex 1 = .ok (.ifCond .ne 11, 3) := dk_154 0 11 (dk_at dksX1_requireIndex_0 1 rfl rfl)
theorem dX1_requireIndex_4 : decode cX1_requireIndex 4 = .ok (.new 15, 3) := dk_187 0 15 (dk_at dksX1_requireIndex_0 4 rfl rfl)
theorem dX1_requireIndex_7 : decode cX1_requireIndex 7 = .ok (.dup, 1) := dk_89 (dk_at dksX1_requireIndex_0 7 rfl rfl)
theorem dX1_requireIndex_8 : decode cX1_requireIndex 8 = .ok (.invokespecial 17, 3) := dk_183 0 17 (dk_at dksX1_requireIndex_0 8 rfl rfl)
theorem dX1_requireIndex_11 : decode cX1_requireIndex 11 = .ok (.athrow, 1) := dk_191 (dk_at dksX1_requireIndex_0 11 rfl rfl)
theorem dX1_requireIndex_12 : decode cX1_requireIndex 12 = .ok (.return_, 1) := dk_177 (dk_at dksX1_requireIndex_0 12 rfl rfl)
def dkwX1_bury_0 : List UInt8 := [42, 180, 0, 69, 27, 182, 0, 110, 184, 0, 114, 42, 16, 98, 27, 2, 16, 98, 182, 0, 165, 172]
abbrev dktX1_bury_0 : List UInt8 := dkwX1_bury_0 ++ []
theorem dksX1_bury_0 : cX1_bury.data.toList.drop 0 = dktX1_bury_0 := by decide +kernel
theorem dX1_bury_0 : decode cX1_bury 0 = .ok (.aload_n 0, 1) := dk_42 (dk_at dksX1_bury_0 0 rfl rfl)
theorem dX1_bury_1 : decode cX1_bury 1 = .ok (.getfield 69, 3) := dk_180 0 69 (dk_at dksX1_bury_0 1 rfl rfl)
theorem dX1_bury_4 : decode cX1_bury 4 = .ok (.iload_n 1, 1) := dk_27 (dk_at dksX1_bury_0 4 rfl rfl)
theorem dX1_bury_5 : decode cX1_bury 5 = .ok (.invokevirtual 110, 3) := dk_182 0 110 (dk_at dksX1_bury_0 5 rfl rfl)
theorem dX1_bury_8 : decode cX1_bury 8 = .ok (.invokestatic 114, 3) := dk_184 0 114 (dk_at dksX1_bury_0 8 rfl rfl)
theorem dX1_bury_11 : decode cX1_bury 11 = .ok (.aload_n 0, 1) := dk_42 (dk_at dksX1_bury_0 11 rfl rfl)
theorem dX1_bury_12 : decode cX1_bury 12 = .ok (.bipush 98, 2) := dk_16 98 (dk_at dksX1_bury_0 12 rfl rfl)
theorem dX1_bury_14 : decode cX1_bury 14 = .ok (.iload_n 1, 1) := dk_27 (dk_at dksX1_bury_0 14 rfl rfl)
theorem dX1_bury_15 : decode cX1_bury 15 = .ok (.iconst (-1), 1) := dk_2 (dk_at dksX1_bury_0 15 rfl rfl)
theorem dX1_bury_16 : decode cX1_bury 16 = .ok (.bipush 98, 2) := dk_16 98 (dk_at dksX1_bury_0 16 rfl rfl)
theorem dX1_bury_18 : decode cX1_bury 18 = .ok (.invokevirtual 165, 3) := dk_182 0 165 (dk_at dksX1_bury_0 18 rfl rfl)
theorem dX1_bury_21 : decode cX1_bury 21 = .ok (.ireturn, 1) := dk_172 (dk_at dksX1_bury_0 21 rfl rfl)
def dkwX1_isAlive_0 : List UInt8 := [42, 27, 182, 0, 172, 180, 0, 176, 172]
abbrev dktX1_isAlive_0 : List UInt8 := dkwX1_isAlive_0 ++ []
theorem dksX1_isAlive_0 : cX1_isAlive.data.toList.drop 0 = dktX1_isAlive_0 := by decide +kernel
theorem dX1_isAlive_0 : decode cX1_isAlive 0 = .ok (.aload_n 0, 1) := dk_42 (dk_at dksX1_isAlive_0 0 rfl rfl)
theorem dX1_isAlive_1 : decode cX1_isAlive 1 = .ok (.iload_n 1, 1) := dk_27 (dk_at dksX1_isAlive_0 1 rfl rfl)
theorem dX1_isAlive_2 : decode cX1_isAlive 2 = .ok (.invokevirtual 172, 3) := dk_182 0 172 (dk_at dksX1_isAlive_0 2 rfl rfl)
theorem dX1_isAlive_5 : decode cX1_isAlive 5 = .ok (.getfield 176, 3) := dk_180 0 176 (dk_at dksX1_isAlive_0 5 rfl rfl)
theorem dX1_isAlive_8 : decode cX1_isAlive 8 = .ok (.ireturn, 1) := dk_172 (dk_at dksX1_isAlive_0 8 rfl rfl)
def dkwX1_requirePerson_1 : List UInt8 := [192, 0, 124, 176]
abbrev dktX1_requirePerson_1 : List UInt8 := dkwX1_requirePerson_1 ++ []
def dkwX1_requirePerson_0 : List UInt8 := [42, 180, 0, 69, 27, 182, 0, 110, 184, 0, 114, 42, 180, 0, 69, 180, 0, 118, 27, 182, 0, 121]
abbrev dktX1_requirePerson_0 : List UInt8 := dkwX1_requirePerson_0 ++ dktX1_requirePerson_1
theorem dksX1_requirePerson_0 : cX1_requirePerson.data.toList.drop 0 = dktX1_requirePerson_0 := by decide +kernel
theorem dksX1_requirePerson_1 : cX1_requirePerson.data.toList.drop 22 = dktX1_requirePerson_1 := dk_seg dksX1_requirePerson_0 22 rfl rfl
theorem dX1_requirePerson_0 : decode cX1_requirePerson 0 = .ok (.aload_n 0, 1) := dk_42 (dk_at dksX1_requirePerson_0 0 rfl rfl)
theorem dX1_requirePerson_1 : decode cX1_requirePerson 1 = .ok (.getfield 69, 3) := dk_180 0 69 (dk_at dksX1_requirePerson_0 1 rfl rfl)
theorem dX1_requirePerson_4 : decode cX1_requirePerson 4 = .ok (.iload_n 1, 1) := dk_27 (dk_at dksX1_requirePerson_0 4 rfl rfl)
theorem dX1_requirePerson_5 : decode cX1_requirePerson 5 = .ok (.invokevirtual 110, 3) := dk_182 0 110 (dk_at dksX1_requirePerson_0 5 rfl rfl)
theorem dX1_requirePerson_8 : decode cX1_requirePerson 8 = .ok (.invokestatic 114, 3) := dk_184 0 114 (dk_at dksX1_requirePerson_0 8 rfl rfl)
theorem dX1_requirePerson_11 : decode cX1_requirePerson 11 = .ok (.aload_n 0, 1) := dk_42 (dk_at dksX1_requirePerson_0 11 rfl rfl)
theorem dX1_requirePerson_12 : decode cX1_requirePerson 12 = .ok (.getfield 69, 3) := dk_180 0 69 (dk_at dksX1_requirePerson_0 12 rfl rfl)
theorem dX1_requirePerson_15 : decode cX1_requirePerson 15 = .ok (.getfield 118, 3) := dk_180 0 118 (dk_at dksX1_requirePerson_0 15 rfl rfl)
theorem dX1_requirePerson_18 : decode cX1_requirePerson 18 = .ok (.iload_n 1, 1) := dk_27 (dk_at dksX1_requirePerson_0 18 rfl rfl)
theorem dX1_requirePerson_19 : decode cX1_requirePerson 19 = .ok (.invokevirtual 121, 3) := dk_182 0 121 (dk_at dksX1_requirePerson_0 19 rfl rfl)
theorem dX1_requirePerson_22 : decode cX1_requirePerson 22 = .ok (.checkcast 124, 3) := dk_192 0 124 (dk_at dksX1_requirePerson_1 0 rfl rfl)
theorem dX1_requirePerson_25 : decode cX1_requirePerson 25 = .ok (.areturn, 1) := dk_176 (dk_at dksX1_requirePerson_1 3 rfl rfl)
def dkwX1_isFounder_0 : List UInt8 := [42, 27, 182, 0, 172, 180, 0, 180, 199, 0, 7, 4, 167, 0, 4, 3, 172]
abbrev dktX1_isFounder_0 : List UInt8 := dkwX1_isFounder_0 ++ []
theorem dksX1_isFounder_0 : cX1_isFounder.data.toList.drop 0 = dktX1_isFounder_0 := by decide +kernel
theorem dX1_isFounder_0 : decode cX1_isFounder 0 = .ok (.aload_n 0, 1) := dk_42 (dk_at dksX1_isFounder_0 0 rfl rfl)
theorem dX1_isFounder_1 : decode cX1_isFounder 1 = .ok (.iload_n 1, 1) := dk_27 (dk_at dksX1_isFounder_0 1 rfl rfl)
theorem dX1_isFounder_2 : decode cX1_isFounder 2 = .ok (.invokevirtual 172, 3) := dk_182 0 172 (dk_at dksX1_isFounder_0 2 rfl rfl)
theorem dX1_isFounder_5 : decode cX1_isFounder 5 = .ok (.getfield 180, 3) := dk_180 0 180 (dk_at dksX1_isFounder_0 5 rfl rfl)
theorem dX1_isFounder_8 : decode cX1_isFounder 8 = .ok (.ifnonnull 7, 3) := dk_199 0 7 (dk_at dksX1_isFounder_0 8 rfl rfl)
theorem dX1_isFounder_11 : decode cX1_isFounder 11 = .ok (.iconst 1, 1) := dk_4 (dk_at dksX1_isFounder_0 11 rfl rfl)
theorem dX1_isFounder_12 : decode cX1_isFounder 12 = .ok (.goto 4, 3) := dk_167 0 4 (dk_at dksX1_isFounder_0 12 rfl rfl)
theorem dX1_isFounder_15 : decode cX1_isFounder 15 = .ok (.iconst 0, 1) := dk_3 (dk_at dksX1_isFounder_0 15 rfl rfl)
theorem dX1_isFounder_16 : decode cX1_isFounder 16 = .ok (.ireturn, 1) := dk_172 (dk_at dksX1_isFounder_0 16 rfl rfl)
def dkwX1_parentOf_0 : List UInt8 := [42, 27, 182, 0, 172, 180, 0, 180, 184, 0, 184, 172]
abbrev dktX1_parentOf_0 : List UInt8 := dkwX1_parentOf_0 ++ []
theorem dksX1_parentOf_0 : cX1_parentOf.data.toList.drop 0 = dktX1_parentOf_0 := by decide +kernel
theorem dX1_parentOf_0 : decode cX1_parentOf 0 = .ok (.aload_n 0, 1) := dk_42 (dk_at dksX1_parentOf_0 0 rfl rfl)
theorem dX1_parentOf_1 : decode cX1_parentOf 1 = .ok (.iload_n 1, 1) := dk_27 (dk_at dksX1_parentOf_0 1 rfl rfl)
theorem dX1_parentOf_2 : decode cX1_parentOf 2 = .ok (.invokevirtual 172, 3) := dk_182 0 172 (dk_at dksX1_parentOf_0 2 rfl rfl)
theorem dX1_parentOf_5 : decode cX1_parentOf 5 = .ok (.getfield 180, 3) := dk_180 0 180 (dk_at dksX1_parentOf_0 5 rfl rfl)
theorem dX1_parentOf_8 : decode cX1_parentOf 8 = .ok (.invokestatic 184, 3) := dk_184 0 184 (dk_at dksX1_parentOf_0 8 rfl rfl)
theorem dX1_parentOf_11 : decode cX1_parentOf 11 = .ok (.ireturn, 1) := dk_172 (dk_at dksX1_parentOf_0 11 rfl rfl)
def dkwX1_requireFound_0 : List UInt8 := [42, 198, 0, 7, 4, 167, 0, 4, 3, 184, 0, 134, 42, 180, 0, 137, 172]
abbrev dktX1_requireFound_0 : List UInt8 := dkwX1_requireFound_0 ++ []
theorem dksX1_requireFound_0 : cX1_requireFound.data.toList.drop 0 = dktX1_requireFound_0 := by decide +kernel
theorem dX1_requireFound_0 : decode cX1_requireFound 0 = .ok (.aload_n 0, 1) := dk_42 (dk_at dksX1_requireFound_0 0 rfl rfl)
theorem dX1_requireFound_1 : decode cX1_requireFound 1 = .ok (.ifnull 7, 3) := dk_198 0 7 (dk_at dksX1_requireFound_0 1 rfl rfl)
theorem dX1_requireFound_4 : decode cX1_requireFound 4 = .ok (.iconst 1, 1) := dk_4 (dk_at dksX1_requireFound_0 4 rfl rfl)
theorem dX1_requireFound_5 : decode cX1_requireFound 5 = .ok (.goto 4, 3) := dk_167 0 4 (dk_at dksX1_requireFound_0 5 rfl rfl)
theorem dX1_requireFound_8 : decode cX1_requireFound 8 = .ok (.iconst 0, 1) := dk_3 (dk_at dksX1_requireFound_0 8 rfl rfl)
theorem dX1_requireFound_9 : decode cX1_requireFound 9 = .ok (.invokestatic 134, 3) := dk_184 0 134 (dk_at dksX1_requireFound_0 9 rfl rfl)
theorem dX1_requireFound_12 : decode cX1_requireFound 12 = .ok (.aload_n 0, 1) := dk_42 (dk_at dksX1_requireFound_0 12 rfl rfl)
theorem dX1_requireFound_13 : decode cX1_requireFound 13 = .ok (.getfield 137, 3) := dk_180 0 137 (dk_at dksX1_requireFound_0 13 rfl rfl)
theorem dX1_requireFound_16 : decode cX1_requireFound 16 = .ok (.ireturn, 1) := dk_172 (dk_at dksX1_requireFound_0 16 rfl rfl)
def dkwX1_requireElement_0 : List UInt8 := [26, 154, 0, 11, 187, 0, 27, 89, 183, 0, 29, 191, 177]
abbrev dktX1_requireElement_0 : List UInt8 := dkwX1_requireElement_0 ++ []
theorem dksX1_requireElement_0 : cX1_requireElement.data.toList.drop 0 = dktX1_requireElement_0 := by decide +kernel
theorem dX1_requireElement_0 : decode cX1_requireElement 0 = .ok (.iload_n 0, 1) := dk_26 (dk_at dksX1_requireElement_0 0 rfl rfl)
theorem dX1_requireElement_1 : decode cX1_requireElement 1 = .ok (.ifCond .ne 11, 3) := dk_154 0 11 (dk_at dksX1_requireElement_0 1 rfl rfl)
theorem dX1_requireElement_4 : decode cX1_requireElement 4 = .ok (.new 27, 3) := dk_187 0 27 (dk_at dksX1_requireElement_0 4 rfl rfl)
theorem dX1_requireElement_7 : decode cX1_requireElement 7 = .ok (.dup, 1) := dk_89 (dk_at dksX1_requireElement_0 7 rfl rfl)
theorem dX1_requireElement_8 : decode cX1_requireElement 8 = .ok (.invokespecial 29, 3) := dk_183 0 29 (dk_at dksX1_requireElement_0 8 rfl rfl)
theorem dX1_requireElement_11 : decode cX1_requireElement 11 = .ok (.athrow, 1) := dk_191 (dk_at dksX1_requireElement_0 11 rfl rfl)
theorem dX1_requireElement_12 : decode cX1_requireElement 12 = .ok (.return_, 1) := dk_177 (dk_at dksX1_requireElement_0 12 rfl rfl)
def dkwX1_childCount_0 : List UInt8 := [42, 27, 182, 0, 172, 180, 0, 188, 182, 0, 91, 172]
abbrev dktX1_childCount_0 : List UInt8 := dkwX1_childCount_0 ++ []
theorem dksX1_childCount_0 : cX1_childCount.data.toList.drop 0 = dktX1_childCount_0 := by decide +kernel
theorem dX1_childCount_0 : decode cX1_childCount 0 = .ok (.aload_n 0, 1) := dk_42 (dk_at dksX1_childCount_0 0 rfl rfl)
theorem dX1_childCount_1 : decode cX1_childCount 1 = .ok (.iload_n 1, 1) := dk_27 (dk_at dksX1_childCount_0 1 rfl rfl)
theorem dX1_childCount_2 : decode cX1_childCount 2 = .ok (.invokevirtual 172, 3) := dk_182 0 172 (dk_at dksX1_childCount_0 2 rfl rfl)
theorem dX1_childCount_5 : decode cX1_childCount 5 = .ok (.getfield 188, 3) := dk_180 0 188 (dk_at dksX1_childCount_0 5 rfl rfl)
theorem dX1_childCount_8 : decode cX1_childCount 8 = .ok (.invokevirtual 91, 3) := dk_182 0 91 (dk_at dksX1_childCount_0 8 rfl rfl)
theorem dX1_childCount_11 : decode cX1_childCount 11 = .ok (.ireturn, 1) := dk_172 (dk_at dksX1_childCount_0 11 rfl rfl)
def dkwX1_childAt_1 : List UInt8 := [180, 0, 188, 28, 182, 0, 121, 192, 0, 124, 180, 0, 137, 172]
abbrev dktX1_childAt_1 : List UInt8 := dkwX1_childAt_1 ++ []
def dkwX1_childAt_0 : List UInt8 := [42, 27, 182, 0, 172, 78, 28, 3, 45, 180, 0, 188, 182, 0, 91, 4, 100, 184, 0, 11, 184, 0, 134, 45]
abbrev dktX1_childAt_0 : List UInt8 := dkwX1_childAt_0 ++ dktX1_childAt_1
theorem dksX1_childAt_0 : cX1_childAt.data.toList.drop 0 = dktX1_childAt_0 := by decide +kernel
theorem dksX1_childAt_1 : cX1_childAt.data.toList.drop 24 = dktX1_childAt_1 := dk_seg dksX1_childAt_0 24 rfl rfl
theorem dX1_childAt_0 : decode cX1_childAt 0 = .ok (.aload_n 0, 1) := dk_42 (dk_at dksX1_childAt_0 0 rfl rfl)
theorem dX1_childAt_1 : decode cX1_childAt 1 = .ok (.iload_n 1, 1) := dk_27 (dk_at dksX1_childAt_0 1 rfl rfl)
theorem dX1_childAt_2 : decode cX1_childAt 2 = .ok (.invokevirtual 172, 3) := dk_182 0 172 (dk_at dksX1_childAt_0 2 rfl rfl)
theorem dX1_childAt_5 : decode cX1_childAt 5 = .ok (.astore_n 3, 1) := dk_78 (dk_at dksX1_childAt_0 5 rfl rfl)
theorem dX1_childAt_6 : decode cX1_childAt 6 = .ok (.iload_n 2, 1) := dk_28 (dk_at dksX1_childAt_0 6 rfl rfl)
theorem dX1_childAt_7 : decode cX1_childAt 7 = .ok (.iconst 0, 1) := dk_3 (dk_at dksX1_childAt_0 7 rfl rfl)
theorem dX1_childAt_8 : decode cX1_childAt 8 = .ok (.aload_n 3, 1) := dk_45 (dk_at dksX1_childAt_0 8 rfl rfl)
theorem dX1_childAt_9 : decode cX1_childAt 9 = .ok (.getfield 188, 3) := dk_180 0 188 (dk_at dksX1_childAt_0 9 rfl rfl)
theorem dX1_childAt_12 : decode cX1_childAt 12 = .ok (.invokevirtual 91, 3) := dk_182 0 91 (dk_at dksX1_childAt_0 12 rfl rfl)
theorem dX1_childAt_15 : decode cX1_childAt 15 = .ok (.iconst 1, 1) := dk_4 (dk_at dksX1_childAt_0 15 rfl rfl)
theorem dX1_childAt_16 : decode cX1_childAt 16 = .ok (.isub, 1) := dk_100 (dk_at dksX1_childAt_0 16 rfl rfl)
theorem dX1_childAt_17 : decode cX1_childAt 17 = .ok (.invokestatic 11, 3) := dk_184 0 11 (dk_at dksX1_childAt_0 17 rfl rfl)
theorem dX1_childAt_20 : decode cX1_childAt 20 = .ok (.invokestatic 134, 3) := dk_184 0 134 (dk_at dksX1_childAt_0 20 rfl rfl)
theorem dX1_childAt_23 : decode cX1_childAt 23 = .ok (.aload_n 3, 1) := dk_45 (dk_at dksX1_childAt_0 23 rfl rfl)
theorem dX1_childAt_24 : decode cX1_childAt 24 = .ok (.getfield 188, 3) := dk_180 0 188 (dk_at dksX1_childAt_1 0 rfl rfl)
theorem dX1_childAt_27 : decode cX1_childAt 27 = .ok (.iload_n 2, 1) := dk_28 (dk_at dksX1_childAt_1 3 rfl rfl)
theorem dX1_childAt_28 : decode cX1_childAt 28 = .ok (.invokevirtual 121, 3) := dk_182 0 121 (dk_at dksX1_childAt_1 4 rfl rfl)
theorem dX1_childAt_31 : decode cX1_childAt 31 = .ok (.checkcast 124, 3) := dk_192 0 124 (dk_at dksX1_childAt_1 7 rfl rfl)
theorem dX1_childAt_34 : decode cX1_childAt 34 = .ok (.getfield 137, 3) := dk_180 0 137 (dk_at dksX1_childAt_1 10 rfl rfl)
theorem dX1_childAt_37 : decode cX1_childAt 37 = .ok (.ireturn, 1) := dk_172 (dk_at dksX1_childAt_1 13 rfl rfl)
def dkwX1_generation_0 : List UInt8 := [42, 27, 182, 0, 172, 182, 0, 191, 172]
abbrev dktX1_generation_0 : List UInt8 := dkwX1_generation_0 ++ []
theorem dksX1_generation_0 : cX1_generation.data.toList.drop 0 = dktX1_generation_0 := by decide +kernel
theorem dX1_generation_0 : decode cX1_generation 0 = .ok (.aload_n 0, 1) := dk_42 (dk_at dksX1_generation_0 0 rfl rfl)
theorem dX1_generation_1 : decode cX1_generation 1 = .ok (.iload_n 1, 1) := dk_27 (dk_at dksX1_generation_0 1 rfl rfl)
theorem dX1_generation_2 : decode cX1_generation 2 = .ok (.invokevirtual 172, 3) := dk_182 0 172 (dk_at dksX1_generation_0 2 rfl rfl)
theorem dX1_generation_5 : decode cX1_generation 5 = .ok (.invokevirtual 191, 3) := dk_182 0 191 (dk_at dksX1_generation_0 5 rfl rfl)
theorem dX1_generation_8 : decode cX1_generation 8 = .ok (.ireturn, 1) := dk_172 (dk_at dksX1_generation_0 8 rfl rfl)
def dkwX1_livingDescendants_0 : List UInt8 := [42, 180, 0, 69, 42, 27, 182, 0, 172, 182, 0, 194, 172]
abbrev dktX1_livingDescendants_0 : List UInt8 := dkwX1_livingDescendants_0 ++ []
theorem dksX1_livingDescendants_0 : cX1_livingDescendants.data.toList.drop 0 = dktX1_livingDescendants_0 := by decide +kernel
theorem dX1_livingDescendants_0 : decode cX1_livingDescendants 0 = .ok (.aload_n 0, 1) := dk_42 (dk_at dksX1_livingDescendants_0 0 rfl rfl)
theorem dX1_livingDescendants_1 : decode cX1_livingDescendants 1 = .ok (.getfield 69, 3) := dk_180 0 69 (dk_at dksX1_livingDescendants_0 1 rfl rfl)
theorem dX1_livingDescendants_4 : decode cX1_livingDescendants 4 = .ok (.aload_n 0, 1) := dk_42 (dk_at dksX1_livingDescendants_0 4 rfl rfl)
theorem dX1_livingDescendants_5 : decode cX1_livingDescendants 5 = .ok (.iload_n 1, 1) := dk_27 (dk_at dksX1_livingDescendants_0 5 rfl rfl)
theorem dX1_livingDescendants_6 : decode cX1_livingDescendants 6 = .ok (.invokevirtual 172, 3) := dk_182 0 172 (dk_at dksX1_livingDescendants_0 6 rfl rfl)
theorem dX1_livingDescendants_9 : decode cX1_livingDescendants 9 = .ok (.invokevirtual 194, 3) := dk_182 0 194 (dk_at dksX1_livingDescendants_0 9 rfl rfl)
theorem dX1_livingDescendants_12 : decode cX1_livingDescendants 12 = .ok (.ireturn, 1) := dk_172 (dk_at dksX1_livingDescendants_0 12 rfl rfl)
def dkwX1_isAncestor_0 : List UInt8 := [42, 27, 182, 0, 172, 42, 28, 182, 0, 172, 182, 0, 197, 172]
abbrev dktX1_isAncestor_0 : List UInt8 := dkwX1_isAncestor_0 ++ []
theorem dksX1_isAncestor_0 : cX1_isAncestor.data.toList.drop 0 = dktX1_isAncestor_0 := by decide +kernel
theorem dX1_isAncestor_0 : decode cX1_isAncestor 0 = .ok (.aload_n 0, 1) := dk_42 (dk_at dksX1_isAncestor_0 0 rfl rfl)
theorem dX1_isAncestor_1 : decode cX1_isAncestor 1 = .ok (.iload_n 1, 1) := dk_27 (dk_at dksX1_isAncestor_0 1 rfl rfl)
theorem dX1_isAncestor_2 : decode cX1_isAncestor 2 = .ok (.invokevirtual 172, 3) := dk_182 0 172 (dk_at dksX1_isAncestor_0 2 rfl rfl)
theorem dX1_isAncestor_5 : decode cX1_isAncestor 5 = .ok (.aload_n 0, 1) := dk_42 (dk_at dksX1_isAncestor_0 5 rfl rfl)
theorem dX1_isAncestor_6 : decode cX1_isAncestor 6 = .ok (.iload_n 2, 1) := dk_28 (dk_at dksX1_isAncestor_0 6 rfl rfl)
theorem dX1_isAncestor_7 : decode cX1_isAncestor 7 = .ok (.invokevirtual 172, 3) := dk_182 0 172 (dk_at dksX1_isAncestor_0 7 rfl rfl)
theorem dX1_isAncestor_10 : decode cX1_isAncestor 10 = .ok (.invokevirtual 197, 3) := dk_182 0 197 (dk_at dksX1_isAncestor_0 10 rfl rfl)
theorem dX1_isAncestor_13 : decode cX1_isAncestor 13 = .ok (.ireturn, 1) := dk_172 (dk_at dksX1_isAncestor_0 13 rfl rfl)
def dkwX1_commonAncestor_0 : List UInt8 := [42, 180, 0, 69, 42, 27, 182, 0, 172, 42, 28, 182, 0, 172, 182, 0, 201, 184, 0, 184, 172]
abbrev dktX1_commonAncestor_0 : List UInt8 := dkwX1_commonAncestor_0 ++ []
theorem dksX1_commonAncestor_0 : cX1_commonAncestor.data.toList.drop 0 = dktX1_commonAncestor_0 := by decide +kernel
theorem dX1_commonAncestor_0 : decode cX1_commonAncestor 0 = .ok (.aload_n 0, 1) := dk_42 (dk_at dksX1_commonAncestor_0 0 rfl rfl)
theorem dX1_commonAncestor_1 : decode cX1_commonAncestor 1 = .ok (.getfield 69, 3) := dk_180 0 69 (dk_at dksX1_commonAncestor_0 1 rfl rfl)
theorem dX1_commonAncestor_4 : decode cX1_commonAncestor 4 = .ok (.aload_n 0, 1) := dk_42 (dk_at dksX1_commonAncestor_0 4 rfl rfl)
theorem dX1_commonAncestor_5 : decode cX1_commonAncestor 5 = .ok (.iload_n 1, 1) := dk_27 (dk_at dksX1_commonAncestor_0 5 rfl rfl)
theorem dX1_commonAncestor_6 : decode cX1_commonAncestor 6 = .ok (.invokevirtual 172, 3) := dk_182 0 172 (dk_at dksX1_commonAncestor_0 6 rfl rfl)
theorem dX1_commonAncestor_9 : decode cX1_commonAncestor 9 = .ok (.aload_n 0, 1) := dk_42 (dk_at dksX1_commonAncestor_0 9 rfl rfl)
theorem dX1_commonAncestor_10 : decode cX1_commonAncestor 10 = .ok (.iload_n 2, 1) := dk_28 (dk_at dksX1_commonAncestor_0 10 rfl rfl)
theorem dX1_commonAncestor_11 : decode cX1_commonAncestor 11 = .ok (.invokevirtual 172, 3) := dk_182 0 172 (dk_at dksX1_commonAncestor_0 11 rfl rfl)
theorem dX1_commonAncestor_14 : decode cX1_commonAncestor 14 = .ok (.invokevirtual 201, 3) := dk_182 0 201 (dk_at dksX1_commonAncestor_0 14 rfl rfl)
theorem dX1_commonAncestor_17 : decode cX1_commonAncestor 17 = .ok (.invokestatic 184, 3) := dk_184 0 184 (dk_at dksX1_commonAncestor_0 17 rfl rfl)
theorem dX1_commonAncestor_20 : decode cX1_commonAncestor 20 = .ok (.ireturn, 1) := dk_172 (dk_at dksX1_commonAncestor_0 20 rfl rfl)
def dkwX1_distance_0 : List UInt8 := [42, 180, 0, 69, 42, 27, 182, 0, 172, 42, 28, 182, 0, 172, 182, 0, 205, 184, 0, 209, 172]
abbrev dktX1_distance_0 : List UInt8 := dkwX1_distance_0 ++ []
theorem dksX1_distance_0 : cX1_distance.data.toList.drop 0 = dktX1_distance_0 := by decide +kernel
theorem dX1_distance_0 : decode cX1_distance 0 = .ok (.aload_n 0, 1) := dk_42 (dk_at dksX1_distance_0 0 rfl rfl)
theorem dX1_distance_1 : decode cX1_distance 1 = .ok (.getfield 69, 3) := dk_180 0 69 (dk_at dksX1_distance_0 1 rfl rfl)
theorem dX1_distance_4 : decode cX1_distance 4 = .ok (.aload_n 0, 1) := dk_42 (dk_at dksX1_distance_0 4 rfl rfl)
theorem dX1_distance_5 : decode cX1_distance 5 = .ok (.iload_n 1, 1) := dk_27 (dk_at dksX1_distance_0 5 rfl rfl)
theorem dX1_distance_6 : decode cX1_distance 6 = .ok (.invokevirtual 172, 3) := dk_182 0 172 (dk_at dksX1_distance_0 6 rfl rfl)
theorem dX1_distance_9 : decode cX1_distance 9 = .ok (.aload_n 0, 1) := dk_42 (dk_at dksX1_distance_0 9 rfl rfl)
theorem dX1_distance_10 : decode cX1_distance 10 = .ok (.iload_n 2, 1) := dk_28 (dk_at dksX1_distance_0 10 rfl rfl)
theorem dX1_distance_11 : decode cX1_distance 11 = .ok (.invokevirtual 172, 3) := dk_182 0 172 (dk_at dksX1_distance_0 11 rfl rfl)
theorem dX1_distance_14 : decode cX1_distance 14 = .ok (.invokevirtual 205, 3) := dk_182 0 205 (dk_at dksX1_distance_0 14 rfl rfl)
theorem dX1_distance_17 : decode cX1_distance 17 = .ok (.invokestatic 209, 3) := dk_184 0 209 (dk_at dksX1_distance_0 17 rfl rfl)
theorem dX1_distance_20 : decode cX1_distance 20 = .ok (.ireturn, 1) := dk_172 (dk_at dksX1_distance_0 20 rfl rfl)
def dkwX1_requireDistance_0 : List UInt8 := [26, 2, 159, 0, 7, 4, 167, 0, 4, 3, 184, 0, 134, 26, 172]
abbrev dktX1_requireDistance_0 : List UInt8 := dkwX1_requireDistance_0 ++ []
theorem dksX1_requireDistance_0 : cX1_requireDistance.data.toList.drop 0 = dktX1_requireDistance_0 := by decide +kernel
theorem dX1_requireDistance_0 : decode cX1_requireDistance 0 = .ok (.iload_n 0, 1) := dk_26 (dk_at dksX1_requireDistance_0 0 rfl rfl)
theorem dX1_requireDistance_1 : decode cX1_requireDistance 1 = .ok (.iconst (-1), 1) := dk_2 (dk_at dksX1_requireDistance_0 1 rfl rfl)
theorem dX1_requireDistance_2 : decode cX1_requireDistance 2 = .ok (.if_icmp .eq 7, 3) := dk_159 0 7 (dk_at dksX1_requireDistance_0 2 rfl rfl)
theorem dX1_requireDistance_5 : decode cX1_requireDistance 5 = .ok (.iconst 1, 1) := dk_4 (dk_at dksX1_requireDistance_0 5 rfl rfl)
theorem dX1_requireDistance_6 : decode cX1_requireDistance 6 = .ok (.goto 4, 3) := dk_167 0 4 (dk_at dksX1_requireDistance_0 6 rfl rfl)
theorem dX1_requireDistance_9 : decode cX1_requireDistance 9 = .ok (.iconst 0, 1) := dk_3 (dk_at dksX1_requireDistance_0 9 rfl rfl)
theorem dX1_requireDistance_10 : decode cX1_requireDistance 10 = .ok (.invokestatic 134, 3) := dk_184 0 134 (dk_at dksX1_requireDistance_0 10 rfl rfl)
theorem dX1_requireDistance_13 : decode cX1_requireDistance 13 = .ok (.iload_n 0, 1) := dk_26 (dk_at dksX1_requireDistance_0 13 rfl rfl)
theorem dX1_requireDistance_14 : decode cX1_requireDistance 14 = .ok (.ireturn, 1) := dk_172 (dk_at dksX1_requireDistance_0 14 rfl rfl)
def dkwX1_distanceBySearch_0 : List UInt8 := [42, 180, 0, 69, 42, 27, 182, 0, 172, 42, 28, 182, 0, 172, 182, 0, 212, 184, 0, 209, 172]
abbrev dktX1_distanceBySearch_0 : List UInt8 := dkwX1_distanceBySearch_0 ++ []
theorem dksX1_distanceBySearch_0 : cX1_distanceBySearch.data.toList.drop 0 = dktX1_distanceBySearch_0 := by decide +kernel
theorem dX1_distanceBySearch_0 : decode cX1_distanceBySearch 0 = .ok (.aload_n 0, 1) := dk_42 (dk_at dksX1_distanceBySearch_0 0 rfl rfl)
theorem dX1_distanceBySearch_1 : decode cX1_distanceBySearch 1 = .ok (.getfield 69, 3) := dk_180 0 69 (dk_at dksX1_distanceBySearch_0 1 rfl rfl)
theorem dX1_distanceBySearch_4 : decode cX1_distanceBySearch 4 = .ok (.aload_n 0, 1) := dk_42 (dk_at dksX1_distanceBySearch_0 4 rfl rfl)
theorem dX1_distanceBySearch_5 : decode cX1_distanceBySearch 5 = .ok (.iload_n 1, 1) := dk_27 (dk_at dksX1_distanceBySearch_0 5 rfl rfl)
theorem dX1_distanceBySearch_6 : decode cX1_distanceBySearch 6 = .ok (.invokevirtual 172, 3) := dk_182 0 172 (dk_at dksX1_distanceBySearch_0 6 rfl rfl)
theorem dX1_distanceBySearch_9 : decode cX1_distanceBySearch 9 = .ok (.aload_n 0, 1) := dk_42 (dk_at dksX1_distanceBySearch_0 9 rfl rfl)
theorem dX1_distanceBySearch_10 : decode cX1_distanceBySearch 10 = .ok (.iload_n 2, 1) := dk_28 (dk_at dksX1_distanceBySearch_0 10 rfl rfl)
theorem dX1_distanceBySearch_11 : decode cX1_distanceBySearch 11 = .ok (.invokevirtual 172, 3) := dk_182 0 172 (dk_at dksX1_distanceBySearch_0 11 rfl rfl)
theorem dX1_distanceBySearch_14 : decode cX1_distanceBySearch 14 = .ok (.invokevirtual 212, 3) := dk_182 0 212 (dk_at dksX1_distanceBySearch_0 14 rfl rfl)
theorem dX1_distanceBySearch_17 : decode cX1_distanceBySearch 17 = .ok (.invokestatic 209, 3) := dk_184 0 209 (dk_at dksX1_distanceBySearch_0 17 rfl rfl)
theorem dX1_distanceBySearch_20 : decode cX1_distanceBySearch 20 = .ok (.ireturn, 1) := dk_172 (dk_at dksX1_distanceBySearch_0 20 rfl rfl)
def dkwX1_heirOf_0 : List UInt8 := [42, 180, 0, 69, 42, 27, 182, 0, 172, 182, 0, 215, 184, 0, 184, 172]
abbrev dktX1_heirOf_0 : List UInt8 := dkwX1_heirOf_0 ++ []
theorem dksX1_heirOf_0 : cX1_heirOf.data.toList.drop 0 = dktX1_heirOf_0 := by decide +kernel
theorem dX1_heirOf_0 : decode cX1_heirOf 0 = .ok (.aload_n 0, 1) := dk_42 (dk_at dksX1_heirOf_0 0 rfl rfl)
theorem dX1_heirOf_1 : decode cX1_heirOf 1 = .ok (.getfield 69, 3) := dk_180 0 69 (dk_at dksX1_heirOf_0 1 rfl rfl)
theorem dX1_heirOf_4 : decode cX1_heirOf 4 = .ok (.aload_n 0, 1) := dk_42 (dk_at dksX1_heirOf_0 4 rfl rfl)
theorem dX1_heirOf_5 : decode cX1_heirOf 5 = .ok (.iload_n 1, 1) := dk_27 (dk_at dksX1_heirOf_0 5 rfl rfl)
theorem dX1_heirOf_6 : decode cX1_heirOf 6 = .ok (.invokevirtual 172, 3) := dk_182 0 172 (dk_at dksX1_heirOf_0 6 rfl rfl)
theorem dX1_heirOf_9 : decode cX1_heirOf 9 = .ok (.invokevirtual 215, 3) := dk_182 0 215 (dk_at dksX1_heirOf_0 9 rfl rfl)
theorem dX1_heirOf_12 : decode cX1_heirOf 12 = .ok (.invokestatic 184, 3) := dk_184 0 184 (dk_at dksX1_heirOf_0 12 rfl rfl)
theorem dX1_heirOf_15 : decode cX1_heirOf 15 = .ok (.ireturn, 1) := dk_172 (dk_at dksX1_heirOf_0 15 rfl rfl)
def dkwX1_heirByComparison_0 : List UInt8 := [42, 180, 0, 69, 42, 27, 182, 0, 172, 182, 0, 219, 184, 0, 184, 172]
abbrev dktX1_heirByComparison_0 : List UInt8 := dkwX1_heirByComparison_0 ++ []
theorem dksX1_heirByComparison_0 : cX1_heirByComparison.data.toList.drop 0 = dktX1_heirByComparison_0 := by decide +kernel
theorem dX1_heirByComparison_0 : decode cX1_heirByComparison 0 = .ok (.aload_n 0, 1) := dk_42 (dk_at dksX1_heirByComparison_0 0 rfl rfl)
theorem dX1_heirByComparison_1 : decode cX1_heirByComparison 1 = .ok (.getfield 69, 3) := dk_180 0 69 (dk_at dksX1_heirByComparison_0 1 rfl rfl)
theorem dX1_heirByComparison_4 : decode cX1_heirByComparison 4 = .ok (.aload_n 0, 1) := dk_42 (dk_at dksX1_heirByComparison_0 4 rfl rfl)
theorem dX1_heirByComparison_5 : decode cX1_heirByComparison 5 = .ok (.iload_n 1, 1) := dk_27 (dk_at dksX1_heirByComparison_0 5 rfl rfl)
theorem dX1_heirByComparison_6 : decode cX1_heirByComparison 6 = .ok (.invokevirtual 172, 3) := dk_182 0 172 (dk_at dksX1_heirByComparison_0 6 rfl rfl)
theorem dX1_heirByComparison_9 : decode cX1_heirByComparison 9 = .ok (.invokevirtual 219, 3) := dk_182 0 219 (dk_at dksX1_heirByComparison_0 9 rfl rfl)
theorem dX1_heirByComparison_12 : decode cX1_heirByComparison 12 = .ok (.invokestatic 184, 3) := dk_184 0 184 (dk_at dksX1_heirByComparison_0 12 rfl rfl)
theorem dX1_heirByComparison_15 : decode cX1_heirByComparison 15 = .ok (.ireturn, 1) := dk_172 (dk_at dksX1_heirByComparison_0 15 rfl rfl)
def dkwX1_directHeirOf_0 : List UInt8 := [42, 180, 0, 69, 42, 27, 182, 0, 172, 182, 0, 222, 184, 0, 184, 172]
abbrev dktX1_directHeirOf_0 : List UInt8 := dkwX1_directHeirOf_0 ++ []
theorem dksX1_directHeirOf_0 : cX1_directHeirOf.data.toList.drop 0 = dktX1_directHeirOf_0 := by decide +kernel
theorem dX1_directHeirOf_0 : decode cX1_directHeirOf 0 = .ok (.aload_n 0, 1) := dk_42 (dk_at dksX1_directHeirOf_0 0 rfl rfl)
theorem dX1_directHeirOf_1 : decode cX1_directHeirOf 1 = .ok (.getfield 69, 3) := dk_180 0 69 (dk_at dksX1_directHeirOf_0 1 rfl rfl)
theorem dX1_directHeirOf_4 : decode cX1_directHeirOf 4 = .ok (.aload_n 0, 1) := dk_42 (dk_at dksX1_directHeirOf_0 4 rfl rfl)
theorem dX1_directHeirOf_5 : decode cX1_directHeirOf 5 = .ok (.iload_n 1, 1) := dk_27 (dk_at dksX1_directHeirOf_0 5 rfl rfl)
theorem dX1_directHeirOf_6 : decode cX1_directHeirOf 6 = .ok (.invokevirtual 172, 3) := dk_182 0 172 (dk_at dksX1_directHeirOf_0 6 rfl rfl)
theorem dX1_directHeirOf_9 : decode cX1_directHeirOf 9 = .ok (.invokevirtual 222, 3) := dk_182 0 222 (dk_at dksX1_directHeirOf_0 9 rfl rfl)
theorem dX1_directHeirOf_12 : decode cX1_directHeirOf 12 = .ok (.invokestatic 184, 3) := dk_184 0 184 (dk_at dksX1_directHeirOf_0 12 rfl rfl)
theorem dX1_directHeirOf_15 : decode cX1_directHeirOf 15 = .ok (.ireturn, 1) := dk_172 (dk_at dksX1_directHeirOf_0 15 rfl rfl)
def dkwX1_successionPosition_0 : List UInt8 := [42, 180, 0, 69, 42, 27, 182, 0, 172, 182, 0, 225, 172]
abbrev dktX1_successionPosition_0 : List UInt8 := dkwX1_successionPosition_0 ++ []
theorem dksX1_successionPosition_0 : cX1_successionPosition.data.toList.drop 0 = dktX1_successionPosition_0 := by decide +kernel
theorem dX1_successionPosition_0 : decode cX1_successionPosition 0 = .ok (.aload_n 0, 1) := dk_42 (dk_at dksX1_successionPosition_0 0 rfl rfl)
theorem dX1_successionPosition_1 : decode cX1_successionPosition 1 = .ok (.getfield 69, 3) := dk_180 0 69 (dk_at dksX1_successionPosition_0 1 rfl rfl)
theorem dX1_successionPosition_4 : decode cX1_successionPosition 4 = .ok (.aload_n 0, 1) := dk_42 (dk_at dksX1_successionPosition_0 4 rfl rfl)
theorem dX1_successionPosition_5 : decode cX1_successionPosition 5 = .ok (.iload_n 1, 1) := dk_27 (dk_at dksX1_successionPosition_0 5 rfl rfl)
theorem dX1_successionPosition_6 : decode cX1_successionPosition 6 = .ok (.invokevirtual 172, 3) := dk_182 0 172 (dk_at dksX1_successionPosition_0 6 rfl rfl)
theorem dX1_successionPosition_9 : decode cX1_successionPosition 9 = .ok (.invokevirtual 225, 3) := dk_182 0 225 (dk_at dksX1_successionPosition_0 9 rfl rfl)
theorem dX1_successionPosition_12 : decode cX1_successionPosition 12 = .ok (.ireturn, 1) := dk_172 (dk_at dksX1_successionPosition_0 12 rfl rfl)
def dkwX1_addHabit_1 : List UInt8 := [153, 0, 7, 4, 167, 0, 4, 3, 184, 0, 235, 42, 16, 97, 27, 29, 28, 182, 0, 165, 172]
abbrev dktX1_addHabit_1 : List UInt8 := dkwX1_addHabit_1 ++ []
def dkwX1_addHabit_0 : List UInt8 := [42, 180, 0, 69, 27, 182, 0, 110, 184, 0, 114, 28, 184, 0, 228, 153, 0, 14, 29, 184, 0, 232]
abbrev dktX1_addHabit_0 : List UInt8 := dkwX1_addHabit_0 ++ dktX1_addHabit_1
theorem dksX1_addHabit_0 : cX1_addHabit.data.toList.drop 0 = dktX1_addHabit_0 := by decide +kernel
theorem dksX1_addHabit_1 : cX1_addHabit.data.toList.drop 22 = dktX1_addHabit_1 := dk_seg dksX1_addHabit_0 22 rfl rfl
theorem dX1_addHabit_0 : decode cX1_addHabit 0 = .ok (.aload_n 0, 1) := dk_42 (dk_at dksX1_addHabit_0 0 rfl rfl)
theorem dX1_addHabit_1 : decode cX1_addHabit 1 = .ok (.getfield 69, 3) := dk_180 0 69 (dk_at dksX1_addHabit_0 1 rfl rfl)
theorem dX1_addHabit_4 : decode cX1_addHabit 4 = .ok (.iload_n 1, 1) := dk_27 (dk_at dksX1_addHabit_0 4 rfl rfl)
theorem dX1_addHabit_5 : decode cX1_addHabit 5 = .ok (.invokevirtual 110, 3) := dk_182 0 110 (dk_at dksX1_addHabit_0 5 rfl rfl)
theorem dX1_addHabit_8 : decode cX1_addHabit 8 = .ok (.invokestatic 114, 3) := dk_184 0 114 (dk_at dksX1_addHabit_0 8 rfl rfl)
theorem dX1_addHabit_11 : decode cX1_addHabit 11 = .ok (.iload_n 2, 1) := dk_28 (dk_at dksX1_addHabit_0 11 rfl rfl)
theorem dX1_addHabit_12 : decode cX1_addHabit 12 = .ok (.invokestatic 228, 3) := dk_184 0 228 (dk_at dksX1_addHabit_0 12 rfl rfl)
theorem dX1_addHabit_15 : decode cX1_addHabit 15 = .ok (.ifCond .eq 14, 3) := dk_153 0 14 (dk_at dksX1_addHabit_0 15 rfl rfl)
theorem dX1_addHabit_18 : decode cX1_addHabit 18 = .ok (.iload_n 3, 1) := dk_29 (dk_at dksX1_addHabit_0 18 rfl rfl)
theorem dX1_addHabit_19 : decode cX1_addHabit 19 = .ok (.invokestatic 232, 3) := dk_184 0 232 (dk_at dksX1_addHabit_0 19 rfl rfl)
theorem dX1_addHabit_22 : decode cX1_addHabit 22 = .ok (.ifCond .eq 7, 3) := dk_153 0 7 (dk_at dksX1_addHabit_1 0 rfl rfl)
theorem dX1_addHabit_25 : decode cX1_addHabit 25 = .ok (.iconst 1, 1) := dk_4 (dk_at dksX1_addHabit_1 3 rfl rfl)
theorem dX1_addHabit_26 : decode cX1_addHabit 26 = .ok (.goto 4, 3) := dk_167 0 4 (dk_at dksX1_addHabit_1 4 rfl rfl)
theorem dX1_addHabit_29 : decode cX1_addHabit 29 = .ok (.iconst 0, 1) := dk_3 (dk_at dksX1_addHabit_1 7 rfl rfl)
theorem dX1_addHabit_30 : decode cX1_addHabit 30 = .ok (.invokestatic 235, 3) := dk_184 0 235 (dk_at dksX1_addHabit_1 8 rfl rfl)
theorem dX1_addHabit_33 : decode cX1_addHabit 33 = .ok (.aload_n 0, 1) := dk_42 (dk_at dksX1_addHabit_1 11 rfl rfl)
theorem dX1_addHabit_34 : decode cX1_addHabit 34 = .ok (.bipush 97, 2) := dk_16 97 (dk_at dksX1_addHabit_1 12 rfl rfl)
theorem dX1_addHabit_36 : decode cX1_addHabit 36 = .ok (.iload_n 1, 1) := dk_27 (dk_at dksX1_addHabit_1 14 rfl rfl)
theorem dX1_addHabit_37 : decode cX1_addHabit 37 = .ok (.iload_n 3, 1) := dk_29 (dk_at dksX1_addHabit_1 15 rfl rfl)
theorem dX1_addHabit_38 : decode cX1_addHabit 38 = .ok (.iload_n 2, 1) := dk_28 (dk_at dksX1_addHabit_1 16 rfl rfl)
theorem dX1_addHabit_39 : decode cX1_addHabit 39 = .ok (.invokevirtual 165, 3) := dk_182 0 165 (dk_at dksX1_addHabit_1 17 rfl rfl)
theorem dX1_addHabit_42 : decode cX1_addHabit 42 = .ok (.ireturn, 1) := dk_172 (dk_at dksX1_addHabit_1 20 rfl rfl)
def dkwX1_isKind_0 : List UInt8 := [18, 3, 26, 182, 0, 5, 155, 0, 7, 4, 167, 0, 4, 3, 172]
abbrev dktX1_isKind_0 : List UInt8 := dkwX1_isKind_0 ++ []
theorem dksX1_isKind_0 : cX1_isKind.data.toList.drop 0 = dktX1_isKind_0 := by decide +kernel
theorem dX1_isKind_0 : decode cX1_isKind 0 = .ok (.ldc 3, 2) := dk_18 3 (dk_at dksX1_isKind_0 0 rfl rfl)
theorem dX1_isKind_2 : decode cX1_isKind 2 = .ok (.iload_n 0, 1) := dk_26 (dk_at dksX1_isKind_0 2 rfl rfl)
theorem dX1_isKind_3 : decode cX1_isKind 3 = .ok (.invokevirtual 5, 3) := dk_182 0 5 (dk_at dksX1_isKind_0 3 rfl rfl)
theorem dX1_isKind_6 : decode cX1_isKind 6 = .ok (.ifCond .lt 7, 3) := dk_155 0 7 (dk_at dksX1_isKind_0 6 rfl rfl)
theorem dX1_isKind_9 : decode cX1_isKind 9 = .ok (.iconst 1, 1) := dk_4 (dk_at dksX1_isKind_0 9 rfl rfl)
theorem dX1_isKind_10 : decode cX1_isKind 10 = .ok (.goto 4, 3) := dk_167 0 4 (dk_at dksX1_isKind_0 10 rfl rfl)
theorem dX1_isKind_13 : decode cX1_isKind 13 = .ok (.iconst 0, 1) := dk_3 (dk_at dksX1_isKind_0 13 rfl rfl)
theorem dX1_isKind_14 : decode cX1_isKind 14 = .ok (.ireturn, 1) := dk_172 (dk_at dksX1_isKind_0 14 rfl rfl)
def dkwX1_requireArgument_0 : List UInt8 := [26, 154, 0, 11, 187, 0, 21, 89, 183, 0, 23, 191, 177]
abbrev dktX1_requireArgument_0 : List UInt8 := dkwX1_requireArgument_0 ++ []
theorem dksX1_requireArgument_0 : cX1_requireArgument.data.toList.drop 0 = dktX1_requireArgument_0 := by decide +kernel
theorem dX1_requireArgument_0 : decode cX1_requireArgument 0 = .ok (.iload_n 0, 1) := dk_26 (dk_at dksX1_requireArgument_0 0 rfl rfl)
theorem dX1_requireArgument_1 : decode cX1_requireArgument 1 = .ok (.ifCond .ne 11, 3) := dk_154 0 11 (dk_at dksX1_requireArgument_0 1 rfl rfl)
theorem dX1_requireArgument_4 : decode cX1_requireArgument 4 = .ok (.new 21, 3) := dk_187 0 21 (dk_at dksX1_requireArgument_0 4 rfl rfl)
theorem dX1_requireArgument_7 : decode cX1_requireArgument 7 = .ok (.dup, 1) := dk_89 (dk_at dksX1_requireArgument_0 7 rfl rfl)
theorem dX1_requireArgument_8 : decode cX1_requireArgument 8 = .ok (.invokespecial 23, 3) := dk_183 0 23 (dk_at dksX1_requireArgument_0 8 rfl rfl)
theorem dX1_requireArgument_11 : decode cX1_requireArgument 11 = .ok (.athrow, 1) := dk_191 (dk_at dksX1_requireArgument_0 11 rfl rfl)
theorem dX1_requireArgument_12 : decode cX1_requireArgument 12 = .ok (.return_, 1) := dk_177 (dk_at dksX1_requireArgument_0 12 rfl rfl)
def dkwX1_practise_0 : List UInt8 := [42, 180, 0, 69, 27, 182, 0, 126, 184, 0, 114, 42, 16, 112, 27, 2, 16, 112, 182, 0, 165, 172]
abbrev dktX1_practise_0 : List UInt8 := dkwX1_practise_0 ++ []
theorem dksX1_practise_0 : cX1_practise.data.toList.drop 0 = dktX1_practise_0 := by decide +kernel
theorem dX1_practise_0 : decode cX1_practise 0 = .ok (.aload_n 0, 1) := dk_42 (dk_at dksX1_practise_0 0 rfl rfl)
theorem dX1_practise_1 : decode cX1_practise 1 = .ok (.getfield 69, 3) := dk_180 0 69 (dk_at dksX1_practise_0 1 rfl rfl)
theorem dX1_practise_4 : decode cX1_practise 4 = .ok (.iload_n 1, 1) := dk_27 (dk_at dksX1_practise_0 4 rfl rfl)
theorem dX1_practise_5 : decode cX1_practise 5 = .ok (.invokevirtual 126, 3) := dk_182 0 126 (dk_at dksX1_practise_0 5 rfl rfl)
theorem dX1_practise_8 : decode cX1_practise 8 = .ok (.invokestatic 114, 3) := dk_184 0 114 (dk_at dksX1_practise_0 8 rfl rfl)
theorem dX1_practise_11 : decode cX1_practise 11 = .ok (.aload_n 0, 1) := dk_42 (dk_at dksX1_practise_0 11 rfl rfl)
theorem dX1_practise_12 : decode cX1_practise 12 = .ok (.bipush 112, 2) := dk_16 112 (dk_at dksX1_practise_0 12 rfl rfl)
theorem dX1_practise_14 : decode cX1_practise 14 = .ok (.iload_n 1, 1) := dk_27 (dk_at dksX1_practise_0 14 rfl rfl)
theorem dX1_practise_15 : decode cX1_practise 15 = .ok (.iconst (-1), 1) := dk_2 (dk_at dksX1_practise_0 15 rfl rfl)
theorem dX1_practise_16 : decode cX1_practise 16 = .ok (.bipush 112, 2) := dk_16 112 (dk_at dksX1_practise_0 16 rfl rfl)
theorem dX1_practise_18 : decode cX1_practise 18 = .ok (.invokevirtual 165, 3) := dk_182 0 165 (dk_at dksX1_practise_0 18 rfl rfl)
theorem dX1_practise_21 : decode cX1_practise 21 = .ok (.ireturn, 1) := dk_172 (dk_at dksX1_practise_0 21 rfl rfl)
def dkwX1_neglect_0 : List UInt8 := [42, 180, 0, 69, 27, 182, 0, 126, 184, 0, 114, 42, 16, 110, 27, 2, 16, 110, 182, 0, 165, 172]
abbrev dktX1_neglect_0 : List UInt8 := dkwX1_neglect_0 ++ []
theorem dksX1_neglect_0 : cX1_neglect.data.toList.drop 0 = dktX1_neglect_0 := by decide +kernel
theorem dX1_neglect_0 : decode cX1_neglect 0 = .ok (.aload_n 0, 1) := dk_42 (dk_at dksX1_neglect_0 0 rfl rfl)
theorem dX1_neglect_1 : decode cX1_neglect 1 = .ok (.getfield 69, 3) := dk_180 0 69 (dk_at dksX1_neglect_0 1 rfl rfl)
theorem dX1_neglect_4 : decode cX1_neglect 4 = .ok (.iload_n 1, 1) := dk_27 (dk_at dksX1_neglect_0 4 rfl rfl)
theorem dX1_neglect_5 : decode cX1_neglect 5 = .ok (.invokevirtual 126, 3) := dk_182 0 126 (dk_at dksX1_neglect_0 5 rfl rfl)
theorem dX1_neglect_8 : decode cX1_neglect 8 = .ok (.invokestatic 114, 3) := dk_184 0 114 (dk_at dksX1_neglect_0 8 rfl rfl)
theorem dX1_neglect_11 : decode cX1_neglect 11 = .ok (.aload_n 0, 1) := dk_42 (dk_at dksX1_neglect_0 11 rfl rfl)
theorem dX1_neglect_12 : decode cX1_neglect 12 = .ok (.bipush 110, 2) := dk_16 110 (dk_at dksX1_neglect_0 12 rfl rfl)
theorem dX1_neglect_14 : decode cX1_neglect 14 = .ok (.iload_n 1, 1) := dk_27 (dk_at dksX1_neglect_0 14 rfl rfl)
theorem dX1_neglect_15 : decode cX1_neglect 15 = .ok (.iconst (-1), 1) := dk_2 (dk_at dksX1_neglect_0 15 rfl rfl)
theorem dX1_neglect_16 : decode cX1_neglect 16 = .ok (.bipush 110, 2) := dk_16 110 (dk_at dksX1_neglect_0 16 rfl rfl)
theorem dX1_neglect_18 : decode cX1_neglect 18 = .ok (.invokevirtual 165, 3) := dk_182 0 165 (dk_at dksX1_neglect_0 18 rfl rfl)
theorem dX1_neglect_21 : decode cX1_neglect 21 = .ok (.ireturn, 1) := dk_172 (dk_at dksX1_neglect_0 21 rfl rfl)
def dkwX1_entail_0 : List UInt8 := [42, 180, 0, 69, 27, 182, 0, 126, 184, 0, 114, 42, 16, 101, 27, 2, 16, 101, 182, 0, 165, 172]
abbrev dktX1_entail_0 : List UInt8 := dkwX1_entail_0 ++ []
theorem dksX1_entail_0 : cX1_entail.data.toList.drop 0 = dktX1_entail_0 := by decide +kernel
theorem dX1_entail_0 : decode cX1_entail 0 = .ok (.aload_n 0, 1) := dk_42 (dk_at dksX1_entail_0 0 rfl rfl)
theorem dX1_entail_1 : decode cX1_entail 1 = .ok (.getfield 69, 3) := dk_180 0 69 (dk_at dksX1_entail_0 1 rfl rfl)
theorem dX1_entail_4 : decode cX1_entail 4 = .ok (.iload_n 1, 1) := dk_27 (dk_at dksX1_entail_0 4 rfl rfl)
theorem dX1_entail_5 : decode cX1_entail 5 = .ok (.invokevirtual 126, 3) := dk_182 0 126 (dk_at dksX1_entail_0 5 rfl rfl)
theorem dX1_entail_8 : decode cX1_entail 8 = .ok (.invokestatic 114, 3) := dk_184 0 114 (dk_at dksX1_entail_0 8 rfl rfl)
theorem dX1_entail_11 : decode cX1_entail 11 = .ok (.aload_n 0, 1) := dk_42 (dk_at dksX1_entail_0 11 rfl rfl)
theorem dX1_entail_12 : decode cX1_entail 12 = .ok (.bipush 101, 2) := dk_16 101 (dk_at dksX1_entail_0 12 rfl rfl)
theorem dX1_entail_14 : decode cX1_entail 14 = .ok (.iload_n 1, 1) := dk_27 (dk_at dksX1_entail_0 14 rfl rfl)
theorem dX1_entail_15 : decode cX1_entail 15 = .ok (.iconst (-1), 1) := dk_2 (dk_at dksX1_entail_0 15 rfl rfl)
theorem dX1_entail_16 : decode cX1_entail 16 = .ok (.bipush 101, 2) := dk_16 101 (dk_at dksX1_entail_0 16 rfl rfl)
theorem dX1_entail_18 : decode cX1_entail 18 = .ok (.invokevirtual 165, 3) := dk_182 0 165 (dk_at dksX1_entail_0 18 rfl rfl)
theorem dX1_entail_21 : decode cX1_entail 21 = .ok (.ireturn, 1) := dk_172 (dk_at dksX1_entail_0 21 rfl rfl)
def dkwX1_breakEntail_0 : List UInt8 := [42, 180, 0, 69, 27, 182, 0, 126, 184, 0, 114, 42, 16, 107, 27, 2, 16, 107, 182, 0, 165, 172]
abbrev dktX1_breakEntail_0 : List UInt8 := dkwX1_breakEntail_0 ++ []
theorem dksX1_breakEntail_0 : cX1_breakEntail.data.toList.drop 0 = dktX1_breakEntail_0 := by decide +kernel
theorem dX1_breakEntail_0 : decode cX1_breakEntail 0 = .ok (.aload_n 0, 1) := dk_42 (dk_at dksX1_breakEntail_0 0 rfl rfl)
theorem dX1_breakEntail_1 : decode cX1_breakEntail 1 = .ok (.getfield 69, 3) := dk_180 0 69 (dk_at dksX1_breakEntail_0 1 rfl rfl)
theorem dX1_breakEntail_4 : decode cX1_breakEntail 4 = .ok (.iload_n 1, 1) := dk_27 (dk_at dksX1_breakEntail_0 4 rfl rfl)
theorem dX1_breakEntail_5 : decode cX1_breakEntail 5 = .ok (.invokevirtual 126, 3) := dk_182 0 126 (dk_at dksX1_breakEntail_0 5 rfl rfl)
theorem dX1_breakEntail_8 : decode cX1_breakEntail 8 = .ok (.invokestatic 114, 3) := dk_184 0 114 (dk_at dksX1_breakEntail_0 8 rfl rfl)
theorem dX1_breakEntail_11 : decode cX1_breakEntail 11 = .ok (.aload_n 0, 1) := dk_42 (dk_at dksX1_breakEntail_0 11 rfl rfl)
theorem dX1_breakEntail_12 : decode cX1_breakEntail 12 = .ok (.bipush 107, 2) := dk_16 107 (dk_at dksX1_breakEntail_0 12 rfl rfl)
theorem dX1_breakEntail_14 : decode cX1_breakEntail 14 = .ok (.iload_n 1, 1) := dk_27 (dk_at dksX1_breakEntail_0 14 rfl rfl)
theorem dX1_breakEntail_15 : decode cX1_breakEntail 15 = .ok (.iconst (-1), 1) := dk_2 (dk_at dksX1_breakEntail_0 15 rfl rfl)
theorem dX1_breakEntail_16 : decode cX1_breakEntail 16 = .ok (.bipush 107, 2) := dk_16 107 (dk_at dksX1_breakEntail_0 16 rfl rfl)
theorem dX1_breakEntail_18 : decode cX1_breakEntail 18 = .ok (.invokevirtual 165, 3) := dk_182 0 165 (dk_at dksX1_breakEntail_0 18 rfl rfl)
theorem dX1_breakEntail_21 : decode cX1_breakEntail 21 = .ok (.ireturn, 1) := dk_172 (dk_at dksX1_breakEntail_0 21 rfl rfl)
def dkwX1_give_1 : List UInt8 := [167, 0, 4, 3, 184, 0, 114, 42, 16, 103, 27, 28, 16, 103, 182, 0, 165, 172]
abbrev dktX1_give_1 : List UInt8 := dkwX1_give_1 ++ []
def dkwX1_give_0 : List UInt8 := [42, 180, 0, 69, 27, 182, 0, 126, 153, 0, 18, 42, 180, 0, 69, 28, 182, 0, 110, 153, 0, 7, 4]
abbrev dktX1_give_0 : List UInt8 := dkwX1_give_0 ++ dktX1_give_1
theorem dksX1_give_0 : cX1_give.data.toList.drop 0 = dktX1_give_0 := by decide +kernel
theorem dksX1_give_1 : cX1_give.data.toList.drop 23 = dktX1_give_1 := dk_seg dksX1_give_0 23 rfl rfl
theorem dX1_give_0 : decode cX1_give 0 = .ok (.aload_n 0, 1) := dk_42 (dk_at dksX1_give_0 0 rfl rfl)
theorem dX1_give_1 : decode cX1_give 1 = .ok (.getfield 69, 3) := dk_180 0 69 (dk_at dksX1_give_0 1 rfl rfl)
theorem dX1_give_4 : decode cX1_give 4 = .ok (.iload_n 1, 1) := dk_27 (dk_at dksX1_give_0 4 rfl rfl)
theorem dX1_give_5 : decode cX1_give 5 = .ok (.invokevirtual 126, 3) := dk_182 0 126 (dk_at dksX1_give_0 5 rfl rfl)
theorem dX1_give_8 : decode cX1_give 8 = .ok (.ifCond .eq 18, 3) := dk_153 0 18 (dk_at dksX1_give_0 8 rfl rfl)
theorem dX1_give_11 : decode cX1_give 11 = .ok (.aload_n 0, 1) := dk_42 (dk_at dksX1_give_0 11 rfl rfl)
theorem dX1_give_12 : decode cX1_give 12 = .ok (.getfield 69, 3) := dk_180 0 69 (dk_at dksX1_give_0 12 rfl rfl)
theorem dX1_give_15 : decode cX1_give 15 = .ok (.iload_n 2, 1) := dk_28 (dk_at dksX1_give_0 15 rfl rfl)
theorem dX1_give_16 : decode cX1_give 16 = .ok (.invokevirtual 110, 3) := dk_182 0 110 (dk_at dksX1_give_0 16 rfl rfl)
theorem dX1_give_19 : decode cX1_give 19 = .ok (.ifCond .eq 7, 3) := dk_153 0 7 (dk_at dksX1_give_0 19 rfl rfl)
theorem dX1_give_22 : decode cX1_give 22 = .ok (.iconst 1, 1) := dk_4 (dk_at dksX1_give_0 22 rfl rfl)
theorem dX1_give_23 : decode cX1_give 23 = .ok (.goto 4, 3) := dk_167 0 4 (dk_at dksX1_give_1 0 rfl rfl)
theorem dX1_give_26 : decode cX1_give 26 = .ok (.iconst 0, 1) := dk_3 (dk_at dksX1_give_1 3 rfl rfl)
theorem dX1_give_27 : decode cX1_give 27 = .ok (.invokestatic 114, 3) := dk_184 0 114 (dk_at dksX1_give_1 4 rfl rfl)
theorem dX1_give_30 : decode cX1_give 30 = .ok (.aload_n 0, 1) := dk_42 (dk_at dksX1_give_1 7 rfl rfl)
theorem dX1_give_31 : decode cX1_give 31 = .ok (.bipush 103, 2) := dk_16 103 (dk_at dksX1_give_1 8 rfl rfl)
theorem dX1_give_33 : decode cX1_give 33 = .ok (.iload_n 1, 1) := dk_27 (dk_at dksX1_give_1 10 rfl rfl)
theorem dX1_give_34 : decode cX1_give 34 = .ok (.iload_n 2, 1) := dk_28 (dk_at dksX1_give_1 11 rfl rfl)
theorem dX1_give_35 : decode cX1_give 35 = .ok (.bipush 103, 2) := dk_16 103 (dk_at dksX1_give_1 12 rfl rfl)
theorem dX1_give_37 : decode cX1_give 37 = .ok (.invokevirtual 165, 3) := dk_182 0 165 (dk_at dksX1_give_1 14 rfl rfl)
theorem dX1_give_40 : decode cX1_give 40 = .ok (.ireturn, 1) := dk_172 (dk_at dksX1_give_1 17 rfl rfl)
def dkwX1_kindOf_0 : List UInt8 := [42, 27, 182, 0, 238, 180, 0, 242, 172]
abbrev dktX1_kindOf_0 : List UInt8 := dkwX1_kindOf_0 ++ []
theorem dksX1_kindOf_0 : cX1_kindOf.data.toList.drop 0 = dktX1_kindOf_0 := by decide +kernel
theorem dX1_kindOf_0 : decode cX1_kindOf 0 = .ok (.aload_n 0, 1) := dk_42 (dk_at dksX1_kindOf_0 0 rfl rfl)
theorem dX1_kindOf_1 : decode cX1_kindOf 1 = .ok (.iload_n 1, 1) := dk_27 (dk_at dksX1_kindOf_0 1 rfl rfl)
theorem dX1_kindOf_2 : decode cX1_kindOf 2 = .ok (.invokevirtual 238, 3) := dk_182 0 238 (dk_at dksX1_kindOf_0 2 rfl rfl)
theorem dX1_kindOf_5 : decode cX1_kindOf 5 = .ok (.getfield 242, 3) := dk_180 0 242 (dk_at dksX1_kindOf_0 5 rfl rfl)
theorem dX1_kindOf_8 : decode cX1_kindOf 8 = .ok (.ireturn, 1) := dk_172 (dk_at dksX1_kindOf_0 8 rfl rfl)
def dkwX1_requireHabit_1 : List UInt8 := [192, 0, 132, 176]
abbrev dktX1_requireHabit_1 : List UInt8 := dkwX1_requireHabit_1 ++ []
def dkwX1_requireHabit_0 : List UInt8 := [42, 180, 0, 69, 27, 182, 0, 126, 184, 0, 114, 42, 180, 0, 69, 180, 0, 129, 27, 182, 0, 121]
abbrev dktX1_requireHabit_0 : List UInt8 := dkwX1_requireHabit_0 ++ dktX1_requireHabit_1
theorem dksX1_requireHabit_0 : cX1_requireHabit.data.toList.drop 0 = dktX1_requireHabit_0 := by decide +kernel
theorem dksX1_requireHabit_1 : cX1_requireHabit.data.toList.drop 22 = dktX1_requireHabit_1 := dk_seg dksX1_requireHabit_0 22 rfl rfl
theorem dX1_requireHabit_0 : decode cX1_requireHabit 0 = .ok (.aload_n 0, 1) := dk_42 (dk_at dksX1_requireHabit_0 0 rfl rfl)
theorem dX1_requireHabit_1 : decode cX1_requireHabit 1 = .ok (.getfield 69, 3) := dk_180 0 69 (dk_at dksX1_requireHabit_0 1 rfl rfl)
theorem dX1_requireHabit_4 : decode cX1_requireHabit 4 = .ok (.iload_n 1, 1) := dk_27 (dk_at dksX1_requireHabit_0 4 rfl rfl)
theorem dX1_requireHabit_5 : decode cX1_requireHabit 5 = .ok (.invokevirtual 126, 3) := dk_182 0 126 (dk_at dksX1_requireHabit_0 5 rfl rfl)
theorem dX1_requireHabit_8 : decode cX1_requireHabit 8 = .ok (.invokestatic 114, 3) := dk_184 0 114 (dk_at dksX1_requireHabit_0 8 rfl rfl)
theorem dX1_requireHabit_11 : decode cX1_requireHabit 11 = .ok (.aload_n 0, 1) := dk_42 (dk_at dksX1_requireHabit_0 11 rfl rfl)
theorem dX1_requireHabit_12 : decode cX1_requireHabit 12 = .ok (.getfield 69, 3) := dk_180 0 69 (dk_at dksX1_requireHabit_0 12 rfl rfl)
theorem dX1_requireHabit_15 : decode cX1_requireHabit 15 = .ok (.getfield 129, 3) := dk_180 0 129 (dk_at dksX1_requireHabit_0 15 rfl rfl)
theorem dX1_requireHabit_18 : decode cX1_requireHabit 18 = .ok (.iload_n 1, 1) := dk_27 (dk_at dksX1_requireHabit_0 18 rfl rfl)
theorem dX1_requireHabit_19 : decode cX1_requireHabit 19 = .ok (.invokevirtual 121, 3) := dk_182 0 121 (dk_at dksX1_requireHabit_0 19 rfl rfl)
theorem dX1_requireHabit_22 : decode cX1_requireHabit 22 = .ok (.checkcast 132, 3) := dk_192 0 132 (dk_at dksX1_requireHabit_1 0 rfl rfl)
theorem dX1_requireHabit_25 : decode cX1_requireHabit 25 = .ok (.areturn, 1) := dk_176 (dk_at dksX1_requireHabit_1 3 rfl rfl)
def dkwX1_strengthOf_0 : List UInt8 := [42, 27, 182, 0, 238, 180, 0, 246, 172]
abbrev dktX1_strengthOf_0 : List UInt8 := dkwX1_strengthOf_0 ++ []
theorem dksX1_strengthOf_0 : cX1_strengthOf.data.toList.drop 0 = dktX1_strengthOf_0 := by decide +kernel
theorem dX1_strengthOf_0 : decode cX1_strengthOf 0 = .ok (.aload_n 0, 1) := dk_42 (dk_at dksX1_strengthOf_0 0 rfl rfl)
theorem dX1_strengthOf_1 : decode cX1_strengthOf 1 = .ok (.iload_n 1, 1) := dk_27 (dk_at dksX1_strengthOf_0 1 rfl rfl)
theorem dX1_strengthOf_2 : decode cX1_strengthOf 2 = .ok (.invokevirtual 238, 3) := dk_182 0 238 (dk_at dksX1_strengthOf_0 2 rfl rfl)
theorem dX1_strengthOf_5 : decode cX1_strengthOf 5 = .ok (.getfield 246, 3) := dk_180 0 246 (dk_at dksX1_strengthOf_0 5 rfl rfl)
theorem dX1_strengthOf_8 : decode cX1_strengthOf 8 = .ok (.ireturn, 1) := dk_172 (dk_at dksX1_strengthOf_0 8 rfl rfl)
def dkwX1_holderOf_0 : List UInt8 := [42, 27, 182, 0, 238, 180, 0, 249, 184, 0, 184, 172]
abbrev dktX1_holderOf_0 : List UInt8 := dkwX1_holderOf_0 ++ []
theorem dksX1_holderOf_0 : cX1_holderOf.data.toList.drop 0 = dktX1_holderOf_0 := by decide +kernel
theorem dX1_holderOf_0 : decode cX1_holderOf 0 = .ok (.aload_n 0, 1) := dk_42 (dk_at dksX1_holderOf_0 0 rfl rfl)
theorem dX1_holderOf_1 : decode cX1_holderOf 1 = .ok (.iload_n 1, 1) := dk_27 (dk_at dksX1_holderOf_0 1 rfl rfl)
theorem dX1_holderOf_2 : decode cX1_holderOf 2 = .ok (.invokevirtual 238, 3) := dk_182 0 238 (dk_at dksX1_holderOf_0 2 rfl rfl)
theorem dX1_holderOf_5 : decode cX1_holderOf 5 = .ok (.getfield 249, 3) := dk_180 0 249 (dk_at dksX1_holderOf_0 5 rfl rfl)
theorem dX1_holderOf_8 : decode cX1_holderOf 8 = .ok (.invokestatic 184, 3) := dk_184 0 184 (dk_at dksX1_holderOf_0 8 rfl rfl)
theorem dX1_holderOf_11 : decode cX1_holderOf 11 = .ok (.ireturn, 1) := dk_172 (dk_at dksX1_holderOf_0 11 rfl rfl)
def dkwX1_isExtinct_0 : List UInt8 := [42, 27, 182, 0, 238, 182, 0, 252, 172]
abbrev dktX1_isExtinct_0 : List UInt8 := dkwX1_isExtinct_0 ++ []
theorem dksX1_isExtinct_0 : cX1_isExtinct.data.toList.drop 0 = dktX1_isExtinct_0 := by decide +kernel
theorem dX1_isExtinct_0 : decode cX1_isExtinct 0 = .ok (.aload_n 0, 1) := dk_42 (dk_at dksX1_isExtinct_0 0 rfl rfl)
theorem dX1_isExtinct_1 : decode cX1_isExtinct 1 = .ok (.iload_n 1, 1) := dk_27 (dk_at dksX1_isExtinct_0 1 rfl rfl)
theorem dX1_isExtinct_2 : decode cX1_isExtinct 2 = .ok (.invokevirtual 238, 3) := dk_182 0 238 (dk_at dksX1_isExtinct_0 2 rfl rfl)
theorem dX1_isExtinct_5 : decode cX1_isExtinct 5 = .ok (.invokevirtual 252, 3) := dk_182 0 252 (dk_at dksX1_isExtinct_0 5 rfl rfl)
theorem dX1_isExtinct_8 : decode cX1_isExtinct 8 = .ok (.ireturn, 1) := dk_172 (dk_at dksX1_isExtinct_0 8 rfl rfl)
def dkwX1_isEntailed_0 : List UInt8 := [42, 27, 182, 0, 238, 180, 0, 255, 172]
abbrev dktX1_isEntailed_0 : List UInt8 := dkwX1_isEntailed_0 ++ []
theorem dksX1_isEntailed_0 : cX1_isEntailed.data.toList.drop 0 = dktX1_isEntailed_0 := by decide +kernel
theorem dX1_isEntailed_0 : decode cX1_isEntailed 0 = .ok (.aload_n 0, 1) := dk_42 (dk_at dksX1_isEntailed_0 0 rfl rfl)
theorem dX1_isEntailed_1 : decode cX1_isEntailed 1 = .ok (.iload_n 1, 1) := dk_27 (dk_at dksX1_isEntailed_0 1 rfl rfl)
theorem dX1_isEntailed_2 : decode cX1_isEntailed 2 = .ok (.invokevirtual 238, 3) := dk_182 0 238 (dk_at dksX1_isEntailed_0 2 rfl rfl)
theorem dX1_isEntailed_5 : decode cX1_isEntailed 5 = .ok (.getfield 255, 3) := dk_180 0 255 (dk_at dksX1_isEntailed_0 5 rfl rfl)
theorem dX1_isEntailed_8 : decode cX1_isEntailed 8 = .ok (.ireturn, 1) := dk_172 (dk_at dksX1_isEntailed_0 8 rfl rfl)
def dkwX1_isPractised_0 : List UInt8 := [42, 27, 182, 0, 238, 180, 1, 2, 172]
abbrev dktX1_isPractised_0 : List UInt8 := dkwX1_isPractised_0 ++ []
theorem dksX1_isPractised_0 : cX1_isPractised.data.toList.drop 0 = dktX1_isPractised_0 := by decide +kernel
theorem dX1_isPractised_0 : decode cX1_isPractised 0 = .ok (.aload_n 0, 1) := dk_42 (dk_at dksX1_isPractised_0 0 rfl rfl)
theorem dX1_isPractised_1 : decode cX1_isPractised 1 = .ok (.iload_n 1, 1) := dk_27 (dk_at dksX1_isPractised_0 1 rfl rfl)
theorem dX1_isPractised_2 : decode cX1_isPractised 2 = .ok (.invokevirtual 238, 3) := dk_182 0 238 (dk_at dksX1_isPractised_0 2 rfl rfl)
theorem dX1_isPractised_5 : decode cX1_isPractised 5 = .ok (.getfield 258, 3) := dk_180 1 2 (dk_at dksX1_isPractised_0 5 rfl rfl)
theorem dX1_isPractised_8 : decode cX1_isPractised 8 = .ok (.ireturn, 1) := dk_172 (dk_at dksX1_isPractised_0 8 rfl rfl)
def dkwX1_habitOf_1 : List UInt8 := [25, 4, 198, 0, 7, 4, 167, 0, 4, 3, 184, 0, 134, 25, 4, 180, 1, 9, 172]
abbrev dktX1_habitOf_1 : List UInt8 := dkwX1_habitOf_1 ++ []
def dkwX1_habitOf_0 : List UInt8 := [42, 27, 182, 0, 172, 78, 28, 184, 0, 228, 184, 0, 235, 42, 180, 0, 69, 45, 28, 182, 1, 5, 58, 4]
abbrev dktX1_habitOf_0 : List UInt8 := dkwX1_habitOf_0 ++ dktX1_habitOf_1
theorem dksX1_habitOf_0 : cX1_habitOf.data.toList.drop 0 = dktX1_habitOf_0 := by decide +kernel
theorem dksX1_habitOf_1 : cX1_habitOf.data.toList.drop 24 = dktX1_habitOf_1 := dk_seg dksX1_habitOf_0 24 rfl rfl
theorem dX1_habitOf_0 : decode cX1_habitOf 0 = .ok (.aload_n 0, 1) := dk_42 (dk_at dksX1_habitOf_0 0 rfl rfl)
theorem dX1_habitOf_1 : decode cX1_habitOf 1 = .ok (.iload_n 1, 1) := dk_27 (dk_at dksX1_habitOf_0 1 rfl rfl)
theorem dX1_habitOf_2 : decode cX1_habitOf 2 = .ok (.invokevirtual 172, 3) := dk_182 0 172 (dk_at dksX1_habitOf_0 2 rfl rfl)
theorem dX1_habitOf_5 : decode cX1_habitOf 5 = .ok (.astore_n 3, 1) := dk_78 (dk_at dksX1_habitOf_0 5 rfl rfl)
theorem dX1_habitOf_6 : decode cX1_habitOf 6 = .ok (.iload_n 2, 1) := dk_28 (dk_at dksX1_habitOf_0 6 rfl rfl)
theorem dX1_habitOf_7 : decode cX1_habitOf 7 = .ok (.invokestatic 228, 3) := dk_184 0 228 (dk_at dksX1_habitOf_0 7 rfl rfl)
theorem dX1_habitOf_10 : decode cX1_habitOf 10 = .ok (.invokestatic 235, 3) := dk_184 0 235 (dk_at dksX1_habitOf_0 10 rfl rfl)
theorem dX1_habitOf_13 : decode cX1_habitOf 13 = .ok (.aload_n 0, 1) := dk_42 (dk_at dksX1_habitOf_0 13 rfl rfl)
theorem dX1_habitOf_14 : decode cX1_habitOf 14 = .ok (.getfield 69, 3) := dk_180 0 69 (dk_at dksX1_habitOf_0 14 rfl rfl)
theorem dX1_habitOf_17 : decode cX1_habitOf 17 = .ok (.aload_n 3, 1) := dk_45 (dk_at dksX1_habitOf_0 17 rfl rfl)
theorem dX1_habitOf_18 : decode cX1_habitOf 18 = .ok (.iload_n 2, 1) := dk_28 (dk_at dksX1_habitOf_0 18 rfl rfl)
theorem dX1_habitOf_19 : decode cX1_habitOf 19 = .ok (.invokevirtual 261, 3) := dk_182 1 5 (dk_at dksX1_habitOf_0 19 rfl rfl)
theorem dX1_habitOf_22 : decode cX1_habitOf 22 = .ok (.astore 4, 2) := dk_58 4 (dk_at dksX1_habitOf_0 22 rfl rfl)
theorem dX1_habitOf_24 : decode cX1_habitOf 24 = .ok (.aload 4, 2) := dk_25 4 (dk_at dksX1_habitOf_1 0 rfl rfl)
theorem dX1_habitOf_26 : decode cX1_habitOf 26 = .ok (.ifnull 7, 3) := dk_198 0 7 (dk_at dksX1_habitOf_1 2 rfl rfl)
theorem dX1_habitOf_29 : decode cX1_habitOf 29 = .ok (.iconst 1, 1) := dk_4 (dk_at dksX1_habitOf_1 5 rfl rfl)
theorem dX1_habitOf_30 : decode cX1_habitOf 30 = .ok (.goto 4, 3) := dk_167 0 4 (dk_at dksX1_habitOf_1 6 rfl rfl)
theorem dX1_habitOf_33 : decode cX1_habitOf 33 = .ok (.iconst 0, 1) := dk_3 (dk_at dksX1_habitOf_1 9 rfl rfl)
theorem dX1_habitOf_34 : decode cX1_habitOf 34 = .ok (.invokestatic 134, 3) := dk_184 0 134 (dk_at dksX1_habitOf_1 10 rfl rfl)
theorem dX1_habitOf_37 : decode cX1_habitOf 37 = .ok (.aload 4, 2) := dk_25 4 (dk_at dksX1_habitOf_1 13 rfl rfl)
theorem dX1_habitOf_39 : decode cX1_habitOf 39 = .ok (.getfield 265, 3) := dk_180 1 9 (dk_at dksX1_habitOf_1 15 rfl rfl)
theorem dX1_habitOf_42 : decode cX1_habitOf 42 = .ok (.ireturn, 1) := dk_172 (dk_at dksX1_habitOf_1 18 rfl rfl)
def dkwX1_habitStrength_0 : List UInt8 := [42, 180, 0, 69, 42, 27, 182, 0, 172, 182, 1, 10, 172]
abbrev dktX1_habitStrength_0 : List UInt8 := dkwX1_habitStrength_0 ++ []
theorem dksX1_habitStrength_0 : cX1_habitStrength.data.toList.drop 0 = dktX1_habitStrength_0 := by decide +kernel
theorem dX1_habitStrength_0 : decode cX1_habitStrength 0 = .ok (.aload_n 0, 1) := dk_42 (dk_at dksX1_habitStrength_0 0 rfl rfl)
theorem dX1_habitStrength_1 : decode cX1_habitStrength 1 = .ok (.getfield 69, 3) := dk_180 0 69 (dk_at dksX1_habitStrength_0 1 rfl rfl)
theorem dX1_habitStrength_4 : decode cX1_habitStrength 4 = .ok (.aload_n 0, 1) := dk_42 (dk_at dksX1_habitStrength_0 4 rfl rfl)
theorem dX1_habitStrength_5 : decode cX1_habitStrength 5 = .ok (.iload_n 1, 1) := dk_27 (dk_at dksX1_habitStrength_0 5 rfl rfl)
theorem dX1_habitStrength_6 : decode cX1_habitStrength 6 = .ok (.invokevirtual 172, 3) := dk_182 0 172 (dk_at dksX1_habitStrength_0 6 rfl rfl)
theorem dX1_habitStrength_9 : decode cX1_habitStrength 9 = .ok (.invokevirtual 266, 3) := dk_182 1 10 (dk_at dksX1_habitStrength_0 9 rfl rfl)
theorem dX1_habitStrength_12 : decode cX1_habitStrength 12 = .ok (.ireturn, 1) := dk_172 (dk_at dksX1_habitStrength_0 12 rfl rfl)
def dkwX1_passYears_0 : List UInt8 := [27, 184, 1, 13, 184, 0, 235, 42, 16, 121, 27, 2, 16, 121, 182, 0, 165, 172]
abbrev dktX1_passYears_0 : List UInt8 := dkwX1_passYears_0 ++ []
theorem dksX1_passYears_0 : cX1_passYears.data.toList.drop 0 = dktX1_passYears_0 := by decide +kernel
theorem dX1_passYears_0 : decode cX1_passYears 0 = .ok (.iload_n 1, 1) := dk_27 (dk_at dksX1_passYears_0 0 rfl rfl)
theorem dX1_passYears_1 : decode cX1_passYears 1 = .ok (.invokestatic 269, 3) := dk_184 1 13 (dk_at dksX1_passYears_0 1 rfl rfl)
theorem dX1_passYears_4 : decode cX1_passYears 4 = .ok (.invokestatic 235, 3) := dk_184 0 235 (dk_at dksX1_passYears_0 4 rfl rfl)
theorem dX1_passYears_7 : decode cX1_passYears 7 = .ok (.aload_n 0, 1) := dk_42 (dk_at dksX1_passYears_0 7 rfl rfl)
theorem dX1_passYears_8 : decode cX1_passYears 8 = .ok (.bipush 121, 2) := dk_16 121 (dk_at dksX1_passYears_0 8 rfl rfl)
theorem dX1_passYears_10 : decode cX1_passYears 10 = .ok (.iload_n 1, 1) := dk_27 (dk_at dksX1_passYears_0 10 rfl rfl)
theorem dX1_passYears_11 : decode cX1_passYears 11 = .ok (.iconst (-1), 1) := dk_2 (dk_at dksX1_passYears_0 11 rfl rfl)
theorem dX1_passYears_12 : decode cX1_passYears 12 = .ok (.bipush 121, 2) := dk_16 121 (dk_at dksX1_passYears_0 12 rfl rfl)
theorem dX1_passYears_14 : decode cX1_passYears 14 = .ok (.invokevirtual 165, 3) := dk_182 0 165 (dk_at dksX1_passYears_0 14 rfl rfl)
theorem dX1_passYears_17 : decode cX1_passYears 17 = .ok (.ireturn, 1) := dk_172 (dk_at dksX1_passYears_0 17 rfl rfl)
def dkwX1_yearsLeft_1 : List UInt8 := [180, 0, 246, 44, 180, 1, 2, 184, 1, 19, 96, 172]
abbrev dktX1_yearsLeft_1 : List UInt8 := dkwX1_yearsLeft_1 ++ []
def dkwX1_yearsLeft_0 : List UInt8 := [42, 27, 182, 0, 238, 77, 44, 182, 0, 252, 154, 0, 7, 4, 167, 0, 4, 3, 184, 0, 134, 44]
abbrev dktX1_yearsLeft_0 : List UInt8 := dkwX1_yearsLeft_0 ++ dktX1_yearsLeft_1
theorem dksX1_yearsLeft_0 : cX1_yearsLeft.data.toList.drop 0 = dktX1_yearsLeft_0 := by decide +kernel
theorem dksX1_yearsLeft_1 : cX1_yearsLeft.data.toList.drop 22 = dktX1_yearsLeft_1 := dk_seg dksX1_yearsLeft_0 22 rfl rfl
theorem dX1_yearsLeft_0 : decode cX1_yearsLeft 0 = .ok (.aload_n 0, 1) := dk_42 (dk_at dksX1_yearsLeft_0 0 rfl rfl)
theorem dX1_yearsLeft_1 : decode cX1_yearsLeft 1 = .ok (.iload_n 1, 1) := dk_27 (dk_at dksX1_yearsLeft_0 1 rfl rfl)
theorem dX1_yearsLeft_2 : decode cX1_yearsLeft 2 = .ok (.invokevirtual 238, 3) := dk_182 0 238 (dk_at dksX1_yearsLeft_0 2 rfl rfl)
theorem dX1_yearsLeft_5 : decode cX1_yearsLeft 5 = .ok (.astore_n 2, 1) := dk_77 (dk_at dksX1_yearsLeft_0 5 rfl rfl)
theorem dX1_yearsLeft_6 : decode cX1_yearsLeft 6 = .ok (.aload_n 2, 1) := dk_44 (dk_at dksX1_yearsLeft_0 6 rfl rfl)
theorem dX1_yearsLeft_7 : decode cX1_yearsLeft 7 = .ok (.invokevirtual 252, 3) := dk_182 0 252 (dk_at dksX1_yearsLeft_0 7 rfl rfl)
theorem dX1_yearsLeft_10 : decode cX1_yearsLeft 10 = .ok (.ifCond .ne 7, 3) := dk_154 0 7 (dk_at dksX1_yearsLeft_0 10 rfl rfl)
theorem dX1_yearsLeft_13 : decode cX1_yearsLeft 13 = .ok (.iconst 1, 1) := dk_4 (dk_at dksX1_yearsLeft_0 13 rfl rfl)
theorem dX1_yearsLeft_14 : decode cX1_yearsLeft 14 = .ok (.goto 4, 3) := dk_167 0 4 (dk_at dksX1_yearsLeft_0 14 rfl rfl)
theorem dX1_yearsLeft_17 : decode cX1_yearsLeft 17 = .ok (.iconst 0, 1) := dk_3 (dk_at dksX1_yearsLeft_0 17 rfl rfl)
theorem dX1_yearsLeft_18 : decode cX1_yearsLeft 18 = .ok (.invokestatic 134, 3) := dk_184 0 134 (dk_at dksX1_yearsLeft_0 18 rfl rfl)
theorem dX1_yearsLeft_21 : decode cX1_yearsLeft 21 = .ok (.aload_n 2, 1) := dk_44 (dk_at dksX1_yearsLeft_0 21 rfl rfl)
theorem dX1_yearsLeft_22 : decode cX1_yearsLeft 22 = .ok (.getfield 246, 3) := dk_180 0 246 (dk_at dksX1_yearsLeft_1 0 rfl rfl)
theorem dX1_yearsLeft_25 : decode cX1_yearsLeft 25 = .ok (.aload_n 2, 1) := dk_44 (dk_at dksX1_yearsLeft_1 3 rfl rfl)
theorem dX1_yearsLeft_26 : decode cX1_yearsLeft 26 = .ok (.getfield 258, 3) := dk_180 1 2 (dk_at dksX1_yearsLeft_1 4 rfl rfl)
theorem dX1_yearsLeft_29 : decode cX1_yearsLeft 29 = .ok (.invokestatic 275, 3) := dk_184 1 19 (dk_at dksX1_yearsLeft_1 7 rfl rfl)
theorem dX1_yearsLeft_32 : decode cX1_yearsLeft 32 = .ok (.iadd, 1) := dk_96 (dk_at dksX1_yearsLeft_1 10 rfl rfl)
theorem dX1_yearsLeft_33 : decode cX1_yearsLeft 33 = .ok (.ireturn, 1) := dk_172 (dk_at dksX1_yearsLeft_1 11 rfl rfl)
def dkwX1_habitByStrength_1 : List UInt8 := [180, 1, 9, 172]
abbrev dktX1_habitByStrength_1 : List UInt8 := dkwX1_habitByStrength_1 ++ []
def dkwX1_habitByStrength_0 : List UInt8 := [42, 180, 0, 69, 27, 182, 1, 46, 77, 44, 198, 0, 7, 4, 167, 0, 4, 3, 184, 0, 134, 44]
abbrev dktX1_habitByStrength_0 : List UInt8 := dkwX1_habitByStrength_0 ++ dktX1_habitByStrength_1
theorem dksX1_habitByStrength_0 : cX1_habitByStrength.data.toList.drop 0 = dktX1_habitByStrength_0 := by decide +kernel
theorem dksX1_habitByStrength_1 : cX1_habitByStrength.data.toList.drop 22 = dktX1_habitByStrength_1 := dk_seg dksX1_habitByStrength_0 22 rfl rfl
theorem dX1_habitByStrength_0 : decode cX1_habitByStrength 0 = .ok (.aload_n 0, 1) := dk_42 (dk_at dksX1_habitByStrength_0 0 rfl rfl)
theorem dX1_habitByStrength_1 : decode cX1_habitByStrength 1 = .ok (.getfield 69, 3) := dk_180 0 69 (dk_at dksX1_habitByStrength_0 1 rfl rfl)
theorem dX1_habitByStrength_4 : decode cX1_habitByStrength 4 = .ok (.iload_n 1, 1) := dk_27 (dk_at dksX1_habitByStrength_0 4 rfl rfl)
theorem dX1_habitByStrength_5 : decode cX1_habitByStrength 5 = .ok (.invokevirtual 302, 3) := dk_182 1 46 (dk_at dksX1_habitByStrength_0 5 rfl rfl)
theorem dX1_habitByStrength_8 : decode cX1_habitByStrength 8 = .ok (.astore_n 2, 1) := dk_77 (dk_at dksX1_habitByStrength_0 8 rfl rfl)
theorem dX1_habitByStrength_9 : decode cX1_habitByStrength 9 = .ok (.aload_n 2, 1) := dk_44 (dk_at dksX1_habitByStrength_0 9 rfl rfl)
theorem dX1_habitByStrength_10 : decode cX1_habitByStrength 10 = .ok (.ifnull 7, 3) := dk_198 0 7 (dk_at dksX1_habitByStrength_0 10 rfl rfl)
theorem dX1_habitByStrength_13 : decode cX1_habitByStrength 13 = .ok (.iconst 1, 1) := dk_4 (dk_at dksX1_habitByStrength_0 13 rfl rfl)
theorem dX1_habitByStrength_14 : decode cX1_habitByStrength 14 = .ok (.goto 4, 3) := dk_167 0 4 (dk_at dksX1_habitByStrength_0 14 rfl rfl)
theorem dX1_habitByStrength_17 : decode cX1_habitByStrength 17 = .ok (.iconst 0, 1) := dk_3 (dk_at dksX1_habitByStrength_0 17 rfl rfl)
theorem dX1_habitByStrength_18 : decode cX1_habitByStrength 18 = .ok (.invokestatic 134, 3) := dk_184 0 134 (dk_at dksX1_habitByStrength_0 18 rfl rfl)
theorem dX1_habitByStrength_21 : decode cX1_habitByStrength 21 = .ok (.aload_n 2, 1) := dk_44 (dk_at dksX1_habitByStrength_0 21 rfl rfl)
theorem dX1_habitByStrength_22 : decode cX1_habitByStrength 22 = .ok (.getfield 265, 3) := dk_180 1 9 (dk_at dksX1_habitByStrength_1 0 rfl rfl)
theorem dX1_habitByStrength_25 : decode cX1_habitByStrength 25 = .ok (.ireturn, 1) := dk_172 (dk_at dksX1_habitByStrength_1 3 rfl rfl)
def dkwX1_personByStrength_0 : List UInt8 := [42, 180, 0, 69, 27, 182, 1, 49, 184, 0, 184, 172]
abbrev dktX1_personByStrength_0 : List UInt8 := dkwX1_personByStrength_0 ++ []
theorem dksX1_personByStrength_0 : cX1_personByStrength.data.toList.drop 0 = dktX1_personByStrength_0 := by decide +kernel
theorem dX1_personByStrength_0 : decode cX1_personByStrength 0 = .ok (.aload_n 0, 1) := dk_42 (dk_at dksX1_personByStrength_0 0 rfl rfl)
theorem dX1_personByStrength_1 : decode cX1_personByStrength 1 = .ok (.getfield 69, 3) := dk_180 0 69 (dk_at dksX1_personByStrength_0 1 rfl rfl)
theorem dX1_personByStrength_4 : decode cX1_personByStrength 4 = .ok (.iload_n 1, 1) := dk_27 (dk_at dksX1_personByStrength_0 4 rfl rfl)
theorem dX1_personByStrength_5 : decode cX1_personByStrength 5 = .ok (.invokevirtual 305, 3) := dk_182 1 49 (dk_at dksX1_personByStrength_0 5 rfl rfl)
theorem dX1_personByStrength_8 : decode cX1_personByStrength 8 = .ok (.invokestatic 184, 3) := dk_184 0 184 (dk_at dksX1_personByStrength_0 8 rfl rfl)
theorem dX1_personByStrength_11 : decode cX1_personByStrength 11 = .ok (.ireturn, 1) := dk_172 (dk_at dksX1_personByStrength_0 11 rfl rfl)
def dkwX1_meanStrength_1 : List UInt8 := [158, 0, 7, 4, 167, 0, 4, 3, 184, 1, 55, 42, 182, 1, 58, 135, 27, 135, 111, 175]
abbrev dktX1_meanStrength_1 : List UInt8 := dkwX1_meanStrength_1 ++ []
def dkwX1_meanStrength_0 : List UInt8 := [42, 180, 0, 69, 42, 180, 0, 69, 180, 1, 32, 42, 180, 0, 69, 180, 1, 52, 182, 1, 39, 60, 27]
abbrev dktX1_meanStrength_0 : List UInt8 := dkwX1_meanStrength_0 ++ dktX1_meanStrength_1
theorem dksX1_meanStrength_0 : cX1_meanStrength.data.toList.drop 0 = dktX1_meanStrength_0 := by decide +kernel
theorem dksX1_meanStrength_1 : cX1_meanStrength.data.toList.drop 23 = dktX1_meanStrength_1 := dk_seg dksX1_meanStrength_0 23 rfl rfl
theorem dX1_meanStrength_0 : decode cX1_meanStrength 0 = .ok (.aload_n 0, 1) := dk_42 (dk_at dksX1_meanStrength_0 0 rfl rfl)
theorem dX1_meanStrength_1 : decode cX1_meanStrength 1 = .ok (.getfield 69, 3) := dk_180 0 69 (dk_at dksX1_meanStrength_0 1 rfl rfl)
theorem dX1_meanStrength_4 : decode cX1_meanStrength 4 = .ok (.aload_n 0, 1) := dk_42 (dk_at dksX1_meanStrength_0 4 rfl rfl)
theorem dX1_meanStrength_5 : decode cX1_meanStrength 5 = .ok (.getfield 69, 3) := dk_180 0 69 (dk_at dksX1_meanStrength_0 5 rfl rfl)
theorem dX1_meanStrength_8 : decode cX1_meanStrength 8 = .ok (.getfield 288, 3) := dk_180 1 32 (dk_at dksX1_meanStrength_0 8 rfl rfl)
theorem dX1_meanStrength_11 : decode cX1_meanStrength 11 = .ok (.aload_n 0, 1) := dk_42 (dk_at dksX1_meanStrength_0 11 rfl rfl)
theorem dX1_meanStrength_12 : decode cX1_meanStrength 12 = .ok (.getfield 69, 3) := dk_180 0 69 (dk_at dksX1_meanStrength_0 12 rfl rfl)
theorem dX1_meanStrength_15 : decode cX1_meanStrength 15 = .ok (.getfield 308, 3) := dk_180 1 52 (dk_at dksX1_meanStrength_0 15 rfl rfl)
theorem dX1_meanStrength_18 : decode cX1_meanStrength 18 = .ok (.invokevirtual 295, 3) := dk_182 1 39 (dk_at dksX1_meanStrength_0 18 rfl rfl)
theorem dX1_meanStrength_21 : decode cX1_meanStrength 21 = .ok (.istore_n 1, 1) := dk_60 (dk_at dksX1_meanStrength_0 21 rfl rfl)
theorem dX1_meanStrength_22 : decode cX1_meanStrength 22 = .ok (.iload_n 1, 1) := dk_27 (dk_at dksX1_meanStrength_0 22 rfl rfl)
theorem dX1_meanStrength_23 : decode cX1_meanStrength 23 = .ok (.ifCond .le 7, 3) := dk_158 0 7 (dk_at dksX1_meanStrength_1 0 rfl rfl)
theorem dX1_meanStrength_26 : decode cX1_meanStrength 26 = .ok (.iconst 1, 1) := dk_4 (dk_at dksX1_meanStrength_1 3 rfl rfl)
theorem dX1_meanStrength_27 : decode cX1_meanStrength 27 = .ok (.goto 4, 3) := dk_167 0 4 (dk_at dksX1_meanStrength_1 4 rfl rfl)
theorem dX1_meanStrength_30 : decode cX1_meanStrength 30 = .ok (.iconst 0, 1) := dk_3 (dk_at dksX1_meanStrength_1 7 rfl rfl)
theorem dX1_meanStrength_31 : decode cX1_meanStrength 31 = .ok (.invokestatic 311, 3) := dk_184 1 55 (dk_at dksX1_meanStrength_1 8 rfl rfl)
theorem dX1_meanStrength_34 : decode cX1_meanStrength 34 = .ok (.aload_n 0, 1) := dk_42 (dk_at dksX1_meanStrength_1 11 rfl rfl)
theorem dX1_meanStrength_35 : decode cX1_meanStrength 35 = .ok (.invokevirtual 314, 3) := dk_182 1 58 (dk_at dksX1_meanStrength_1 12 rfl rfl)
theorem dX1_meanStrength_38 : decode cX1_meanStrength 38 = .ok (.i2d, 1) := dk_135 (dk_at dksX1_meanStrength_1 15 rfl rfl)
theorem dX1_meanStrength_39 : decode cX1_meanStrength 39 = .ok (.iload_n 1, 1) := dk_27 (dk_at dksX1_meanStrength_1 16 rfl rfl)
theorem dX1_meanStrength_40 : decode cX1_meanStrength 40 = .ok (.i2d, 1) := dk_135 (dk_at dksX1_meanStrength_1 17 rfl rfl)
theorem dX1_meanStrength_41 : decode cX1_meanStrength 41 = .ok (.ddiv, 1) := dk_111 (dk_at dksX1_meanStrength_1 18 rfl rfl)
theorem dX1_meanStrength_42 : decode cX1_meanStrength 42 = .ok (.dreturn, 1) := dk_175 (dk_at dksX1_meanStrength_1 19 rfl rfl)
def dkwX1_requireCount_0 : List UInt8 := [26, 154, 0, 11, 187, 0, 30, 89, 183, 0, 32, 191, 177]
abbrev dktX1_requireCount_0 : List UInt8 := dkwX1_requireCount_0 ++ []
theorem dksX1_requireCount_0 : cX1_requireCount.data.toList.drop 0 = dktX1_requireCount_0 := by decide +kernel
theorem dX1_requireCount_0 : decode cX1_requireCount 0 = .ok (.iload_n 0, 1) := dk_26 (dk_at dksX1_requireCount_0 0 rfl rfl)
theorem dX1_requireCount_1 : decode cX1_requireCount 1 = .ok (.ifCond .ne 11, 3) := dk_154 0 11 (dk_at dksX1_requireCount_0 1 rfl rfl)
theorem dX1_requireCount_4 : decode cX1_requireCount 4 = .ok (.new 30, 3) := dk_187 0 30 (dk_at dksX1_requireCount_0 4 rfl rfl)
theorem dX1_requireCount_7 : decode cX1_requireCount 7 = .ok (.dup, 1) := dk_89 (dk_at dksX1_requireCount_0 7 rfl rfl)
theorem dX1_requireCount_8 : decode cX1_requireCount 8 = .ok (.invokespecial 32, 3) := dk_183 0 32 (dk_at dksX1_requireCount_0 8 rfl rfl)
theorem dX1_requireCount_11 : decode cX1_requireCount 11 = .ok (.athrow, 1) := dk_191 (dk_at dksX1_requireCount_0 11 rfl rfl)
theorem dX1_requireCount_12 : decode cX1_requireCount 12 = .ok (.return_, 1) := dk_177 (dk_at dksX1_requireCount_0 12 rfl rfl)
def dkwX1_livingShare_1 : List UInt8 := [134, 110, 174]
abbrev dktX1_livingShare_1 : List UInt8 := dkwX1_livingShare_1 ++ []
def dkwX1_livingShare_0 : List UInt8 := [42, 182, 1, 61, 158, 0, 7, 4, 167, 0, 4, 3, 184, 1, 55, 42, 182, 1, 64, 134, 42, 182, 1, 61]
abbrev dktX1_livingShare_0 : List UInt8 := dkwX1_livingShare_0 ++ dktX1_livingShare_1
theorem dksX1_livingShare_0 : cX1_livingShare.data.toList.drop 0 = dktX1_livingShare_0 := by decide +kernel
theorem dksX1_livingShare_1 : cX1_livingShare.data.toList.drop 24 = dktX1_livingShare_1 := dk_seg dksX1_livingShare_0 24 rfl rfl
theorem dX1_livingShare_0 : decode cX1_livingShare 0 = .ok (.aload_n 0, 1) := dk_42 (dk_at dksX1_livingShare_0 0 rfl rfl)
theorem dX1_livingShare_1 : decode cX1_livingShare 1 = .ok (.invokevirtual 317, 3) := dk_182 1 61 (dk_at dksX1_livingShare_0 1 rfl rfl)
theorem dX1_livingShare_4 : decode cX1_livingShare 4 = .ok (.ifCond .le 7, 3) := dk_158 0 7 (dk_at dksX1_livingShare_0 4 rfl rfl)
theorem dX1_livingShare_7 : decode cX1_livingShare 7 = .ok (.iconst 1, 1) := dk_4 (dk_at dksX1_livingShare_0 7 rfl rfl)
theorem dX1_livingShare_8 : decode cX1_livingShare 8 = .ok (.goto 4, 3) := dk_167 0 4 (dk_at dksX1_livingShare_0 8 rfl rfl)
theorem dX1_livingShare_11 : decode cX1_livingShare 11 = .ok (.iconst 0, 1) := dk_3 (dk_at dksX1_livingShare_0 11 rfl rfl)
theorem dX1_livingShare_12 : decode cX1_livingShare 12 = .ok (.invokestatic 311, 3) := dk_184 1 55 (dk_at dksX1_livingShare_0 12 rfl rfl)
theorem dX1_livingShare_15 : decode cX1_livingShare 15 = .ok (.aload_n 0, 1) := dk_42 (dk_at dksX1_livingShare_0 15 rfl rfl)
theorem dX1_livingShare_16 : decode cX1_livingShare 16 = .ok (.invokevirtual 320, 3) := dk_182 1 64 (dk_at dksX1_livingShare_0 16 rfl rfl)
theorem dX1_livingShare_19 : decode cX1_livingShare 19 = .ok (.i2f, 1) := dk_134 (dk_at dksX1_livingShare_0 19 rfl rfl)
theorem dX1_livingShare_20 : decode cX1_livingShare 20 = .ok (.aload_n 0, 1) := dk_42 (dk_at dksX1_livingShare_0 20 rfl rfl)
theorem dX1_livingShare_21 : decode cX1_livingShare 21 = .ok (.invokevirtual 317, 3) := dk_182 1 61 (dk_at dksX1_livingShare_0 21 rfl rfl)
theorem dX1_livingShare_24 : decode cX1_livingShare 24 = .ok (.i2f, 1) := dk_134 (dk_at dksX1_livingShare_1 0 rfl rfl)
theorem dX1_livingShare_25 : decode cX1_livingShare 25 = .ok (.fdiv, 1) := dk_110 (dk_at dksX1_livingShare_1 1 rfl rfl)
theorem dX1_livingShare_26 : decode cX1_livingShare 26 = .ok (.freturn, 1) := dk_174 (dk_at dksX1_livingShare_1 2 rfl rfl)
def dkwX1_writePerson_6 : List UInt8 := [132, 4, 1, 167, 255, 179, 42, 45, 182, 1, 88, 172]
abbrev dktX1_writePerson_6 : List UInt8 := dkwX1_writePerson_6 ++ []
def dkwX1_writePerson_5 : List UInt8 := [182, 1, 70, 25, 5, 180, 0, 255, 153, 0, 9, 19, 1, 86, 167, 0, 5, 18, 85, 182, 1, 76, 87]
abbrev dktX1_writePerson_5 : List UInt8 := dkwX1_writePerson_5 ++ dktX1_writePerson_6
def dkwX1_writePerson_4 : List UInt8 := [25, 5, 198, 0, 45, 45, 16, 32, 182, 1, 79, 25, 5, 180, 0, 242, 182, 1, 79, 25, 5, 180, 0, 246]
abbrev dktX1_writePerson_4 : List UInt8 := dkwX1_writePerson_4 ++ dktX1_writePerson_5
def dkwX1_writePerson_3 : List UInt8 := [182, 0, 162, 162, 0, 73, 42, 180, 0, 69, 44, 18, 3, 21, 4, 182, 1, 82, 182, 1, 5, 58, 5]
abbrev dktX1_writePerson_3 : List UInt8 := dkwX1_writePerson_3 ++ dktX1_writePerson_4
def dkwX1_writePerson_2 : List UInt8 := [16, 60, 182, 1, 79, 44, 180, 0, 180, 180, 0, 137, 182, 1, 70, 87, 3, 54, 4, 21, 4, 18, 3]
abbrev dktX1_writePerson_2 : List UInt8 := dkwX1_writePerson_2 ++ dktX1_writePerson_3
def dkwX1_writePerson_1 : List UInt8 := [153, 0, 8, 18, 85, 167, 0, 6, 19, 1, 74, 182, 1, 76, 87, 44, 180, 0, 180, 198, 0, 20, 45]
abbrev dktX1_writePerson_1 : List UInt8 := dkwX1_writePerson_1 ++ dktX1_writePerson_2
def dkwX1_writePerson_0 : List UInt8 := [42, 27, 182, 0, 172, 77, 187, 0, 78, 89, 183, 0, 80, 78, 45, 27, 182, 1, 70, 44, 180, 0, 176]
abbrev dktX1_writePerson_0 : List UInt8 := dkwX1_writePerson_0 ++ dktX1_writePerson_1
theorem dksX1_writePerson_0 : cX1_writePerson.data.toList.drop 0 = dktX1_writePerson_0 := by decide +kernel
theorem dksX1_writePerson_1 : cX1_writePerson.data.toList.drop 23 = dktX1_writePerson_1 := dk_seg dksX1_writePerson_0 23 rfl rfl
theorem dksX1_writePerson_2 : cX1_writePerson.data.toList.drop 46 = dktX1_writePerson_2 := dk_seg dksX1_writePerson_1 23 rfl rfl
theorem dksX1_writePerson_3 : cX1_writePerson.data.toList.drop 69 = dktX1_writePerson_3 := dk_seg dksX1_writePerson_2 23 rfl rfl
theorem dksX1_writePerson_4 : cX1_writePerson.data.toList.drop 92 = dktX1_writePerson_4 := dk_seg dksX1_writePerson_3 23 rfl rfl
theorem dksX1_writePerson_5 : cX1_writePerson.data.toList.drop 116 = dktX1_writePerson_5 := dk_seg dksX1_writePerson_4 24 rfl rfl
theorem dksX1_writePerson_6 : cX1_writePerson.data.toList.drop 139 = dktX1_writePerson_6 := dk_seg dksX1_writePerson_5 23 rfl rfl
theorem dX1_writePerson_0 : decode cX1_writePerson 0 = .ok (.aload_n 0, 1) := dk_42 (dk_at dksX1_writePerson_0 0 rfl rfl)
theorem dX1_writePerson_1 : decode cX1_writePerson 1 = .ok (.iload_n 1, 1) := dk_27 (dk_at dksX1_writePerson_0 1 rfl rfl)
theorem dX1_writePerson_2 : decode cX1_writePerson 2 = .ok (.invokevirtual 172, 3) := dk_182 0 172 (dk_at dksX1_writePerson_0 2 rfl rfl)
theorem dX1_writePerson_5 : decode cX1_writePerson 5 = .ok (.astore_n 2, 1) := dk_77 (dk_at dksX1_writePerson_0 5 rfl rfl)
theorem dX1_writePerson_6 : decode cX1_writePerson 6 = .ok (.new 78, 3) := dk_187 0 78 (dk_at dksX1_writePerson_0 6 rfl rfl)
theorem dX1_writePerson_9 : decode cX1_writePerson 9 = .ok (.dup, 1) := dk_89 (dk_at dksX1_writePerson_0 9 rfl rfl)
theorem dX1_writePerson_10 : decode cX1_writePerson 10 = .ok (.invokespecial 80, 3) := dk_183 0 80 (dk_at dksX1_writePerson_0 10 rfl rfl)
theorem dX1_writePerson_13 : decode cX1_writePerson 13 = .ok (.astore_n 3, 1) := dk_78 (dk_at dksX1_writePerson_0 13 rfl rfl)
theorem dX1_writePerson_14 : decode cX1_writePerson 14 = .ok (.aload_n 3, 1) := dk_45 (dk_at dksX1_writePerson_0 14 rfl rfl)
theorem dX1_writePerson_15 : decode cX1_writePerson 15 = .ok (.iload_n 1, 1) := dk_27 (dk_at dksX1_writePerson_0 15 rfl rfl)
theorem dX1_writePerson_16 : decode cX1_writePerson 16 = .ok (.invokevirtual 326, 3) := dk_182 1 70 (dk_at dksX1_writePerson_0 16 rfl rfl)
theorem dX1_writePerson_19 : decode cX1_writePerson 19 = .ok (.aload_n 2, 1) := dk_44 (dk_at dksX1_writePerson_0 19 rfl rfl)
theorem dX1_writePerson_20 : decode cX1_writePerson 20 = .ok (.getfield 176, 3) := dk_180 0 176 (dk_at dksX1_writePerson_0 20 rfl rfl)
theorem dX1_writePerson_23 : decode cX1_writePerson 23 = .ok (.ifCond .eq 8, 3) := dk_153 0 8 (dk_at dksX1_writePerson_1 0 rfl rfl)
theorem dX1_writePerson_26 : decode cX1_writePerson 26 = .ok (.ldc 85, 2) := dk_18 85 (dk_at dksX1_writePerson_1 3 rfl rfl)
theorem dX1_writePerson_28 : decode cX1_writePerson 28 = .ok (.goto 6, 3) := dk_167 0 6 (dk_at dksX1_writePerson_1 5 rfl rfl)
theorem dX1_writePerson_31 : decode cX1_writePerson 31 = .ok (.ldc_w 330, 3) := dk_19 1 74 (dk_at dksX1_writePerson_1 8 rfl rfl)
theorem dX1_writePerson_34 : decode cX1_writePerson 34 = .ok (.invokevirtual 332, 3) := dk_182 1 76 (dk_at dksX1_writePerson_1 11 rfl rfl)
theorem dX1_writePerson_37 : decode cX1_writePerson 37 = .ok (.pop, 1) := dk_87 (dk_at dksX1_writePerson_1 14 rfl rfl)
theorem dX1_writePerson_38 : decode cX1_writePerson 38 = .ok (.aload_n 2, 1) := dk_44 (dk_at dksX1_writePerson_1 15 rfl rfl)
theorem dX1_writePerson_39 : decode cX1_writePerson 39 = .ok (.getfield 180, 3) := dk_180 0 180 (dk_at dksX1_writePerson_1 16 rfl rfl)
theorem dX1_writePerson_42 : decode cX1_writePerson 42 = .ok (.ifnull 20, 3) := dk_198 0 20 (dk_at dksX1_writePerson_1 19 rfl rfl)
theorem dX1_writePerson_45 : decode cX1_writePerson 45 = .ok (.aload_n 3, 1) := dk_45 (dk_at dksX1_writePerson_1 22 rfl rfl)
theorem dX1_writePerson_46 : decode cX1_writePerson 46 = .ok (.bipush 60, 2) := dk_16 60 (dk_at dksX1_writePerson_2 0 rfl rfl)
theorem dX1_writePerson_48 : decode cX1_writePerson 48 = .ok (.invokevirtual 335, 3) := dk_182 1 79 (dk_at dksX1_writePerson_2 2 rfl rfl)
theorem dX1_writePerson_51 : decode cX1_writePerson 51 = .ok (.aload_n 2, 1) := dk_44 (dk_at dksX1_writePerson_2 5 rfl rfl)
theorem dX1_writePerson_52 : decode cX1_writePerson 52 = .ok (.getfield 180, 3) := dk_180 0 180 (dk_at dksX1_writePerson_2 6 rfl rfl)
theorem dX1_writePerson_55 : decode cX1_writePerson 55 = .ok (.getfield 137, 3) := dk_180 0 137 (dk_at dksX1_writePerson_2 9 rfl rfl)
theorem dX1_writePerson_58 : decode cX1_writePerson 58 = .ok (.invokevirtual 326, 3) := dk_182 1 70 (dk_at dksX1_writePerson_2 12 rfl rfl)
theorem dX1_writePerson_61 : decode cX1_writePerson 61 = .ok (.pop, 1) := dk_87 (dk_at dksX1_writePerson_2 15 rfl rfl)
theorem dX1_writePerson_62 : decode cX1_writePerson 62 = .ok (.iconst 0, 1) := dk_3 (dk_at dksX1_writePerson_2 16 rfl rfl)
theorem dX1_writePerson_63 : decode cX1_writePerson 63 = .ok (.istore 4, 2) := dk_54 4 (dk_at dksX1_writePerson_2 17 rfl rfl)
theorem dX1_writePerson_65 : decode cX1_writePerson 65 = .ok (.iload 4, 2) := dk_21 4 (dk_at dksX1_writePerson_2 19 rfl rfl)
theorem dX1_writePerson_67 : decode cX1_writePerson 67 = .ok (.ldc 3, 2) := dk_18 3 (dk_at dksX1_writePerson_2 21 rfl rfl)
theorem dX1_writePerson_69 : decode cX1_writePerson 69 = .ok (.invokevirtual 162, 3) := dk_182 0 162 (dk_at dksX1_writePerson_3 0 rfl rfl)
theorem dX1_writePerson_72 : decode cX1_writePerson 72 = .ok (.if_icmp .ge 73, 3) := dk_162 0 73 (dk_at dksX1_writePerson_3 3 rfl rfl)
theorem dX1_writePerson_75 : decode cX1_writePerson 75 = .ok (.aload_n 0, 1) := dk_42 (dk_at dksX1_writePerson_3 6 rfl rfl)
theorem dX1_writePerson_76 : decode cX1_writePerson 76 = .ok (.getfield 69, 3) := dk_180 0 69 (dk_at dksX1_writePerson_3 7 rfl rfl)
theorem dX1_writePerson_79 : decode cX1_writePerson 79 = .ok (.aload_n 2, 1) := dk_44 (dk_at dksX1_writePerson_3 10 rfl rfl)
theorem dX1_writePerson_80 : decode cX1_writePerson 80 = .ok (.ldc 3, 2) := dk_18 3 (dk_at dksX1_writePerson_3 11 rfl rfl)
theorem dX1_writePerson_82 : decode cX1_writePerson 82 = .ok (.iload 4, 2) := dk_21 4 (dk_at dksX1_writePerson_3 13 rfl rfl)
theorem dX1_writePerson_84 : decode cX1_writePerson 84 = .ok (.invokevirtual 338, 3) := dk_182 1 82 (dk_at dksX1_writePerson_3 15 rfl rfl)
theorem dX1_writePerson_87 : decode cX1_writePerson 87 = .ok (.invokevirtual 261, 3) := dk_182 1 5 (dk_at dksX1_writePerson_3 18 rfl rfl)
theorem dX1_writePerson_90 : decode cX1_writePerson 90 = .ok (.astore 5, 2) := dk_58 5 (dk_at dksX1_writePerson_3 21 rfl rfl)
theorem dX1_writePerson_92 : decode cX1_writePerson 92 = .ok (.aload 5, 2) := dk_25 5 (dk_at dksX1_writePerson_4 0 rfl rfl)
theorem dX1_writePerson_94 : decode cX1_writePerson 94 = .ok (.ifnull 45, 3) := dk_198 0 45 (dk_at dksX1_writePerson_4 2 rfl rfl)
theorem dX1_writePerson_97 : decode cX1_writePerson 97 = .ok (.aload_n 3, 1) := dk_45 (dk_at dksX1_writePerson_4 5 rfl rfl)
theorem dX1_writePerson_98 : decode cX1_writePerson 98 = .ok (.bipush 32, 2) := dk_16 32 (dk_at dksX1_writePerson_4 6 rfl rfl)
theorem dX1_writePerson_100 : decode cX1_writePerson 100 = .ok (.invokevirtual 335, 3) := dk_182 1 79 (dk_at dksX1_writePerson_4 8 rfl rfl)
theorem dX1_writePerson_103 : decode cX1_writePerson 103 = .ok (.aload 5, 2) := dk_25 5 (dk_at dksX1_writePerson_4 11 rfl rfl)
theorem dX1_writePerson_105 : decode cX1_writePerson 105 = .ok (.getfield 242, 3) := dk_180 0 242 (dk_at dksX1_writePerson_4 13 rfl rfl)
theorem dX1_writePerson_108 : decode cX1_writePerson 108 = .ok (.invokevirtual 335, 3) := dk_182 1 79 (dk_at dksX1_writePerson_4 16 rfl rfl)
theorem dX1_writePerson_111 : decode cX1_writePerson 111 = .ok (.aload 5, 2) := dk_25 5 (dk_at dksX1_writePerson_4 19 rfl rfl)
theorem dX1_writePerson_113 : decode cX1_writePerson 113 = .ok (.getfield 246, 3) := dk_180 0 246 (dk_at dksX1_writePerson_4 21 rfl rfl)
theorem dX1_writePerson_116 : decode cX1_writePerson 116 = .ok (.invokevirtual 326, 3) := dk_182 1 70 (dk_at dksX1_writePerson_5 0 rfl rfl)
theorem dX1_writePerson_119 : decode cX1_writePerson 119 = .ok (.aload 5, 2) := dk_25 5 (dk_at dksX1_writePerson_5 3 rfl rfl)
theorem dX1_writePerson_121 : decode cX1_writePerson 121 = .ok (.getfield 255, 3) := dk_180 0 255 (dk_at dksX1_writePerson_5 5 rfl rfl)
theorem dX1_writePerson_124 : decode cX1_writePerson 124 = .ok (.ifCond .eq 9, 3) := dk_153 0 9 (dk_at dksX1_writePerson_5 8 rfl rfl)
theorem dX1_writePerson_127 : decode cX1_writePerson 127 = .ok (.ldc_w 342, 3) := dk_19 1 86 (dk_at dksX1_writePerson_5 11 rfl rfl)
theorem dX1_writePerson_130 : decode cX1_writePerson 130 = .ok (.goto 5, 3) := dk_167 0 5 (dk_at dksX1_writePerson_5 14 rfl rfl)
theorem dX1_writePerson_133 : decode cX1_writePerson 133 = .ok (.ldc 85, 2) := dk_18 85 (dk_at dksX1_writePerson_5 17 rfl rfl)
theorem dX1_writePerson_135 : decode cX1_writePerson 135 = .ok (.invokevirtual 332, 3) := dk_182 1 76 (dk_at dksX1_writePerson_5 19 rfl rfl)
theorem dX1_writePerson_138 : decode cX1_writePerson 138 = .ok (.pop, 1) := dk_87 (dk_at dksX1_writePerson_5 22 rfl rfl)
theorem dX1_writePerson_139 : decode cX1_writePerson 139 = .ok (.iinc 4 1, 3) := dk_132 4 1 (dk_at dksX1_writePerson_6 0 rfl rfl)
theorem dX1_writePerson_142 : decode cX1_writePerson 142 = .ok (.goto (-77), 3) := dk_167 255 179 (dk_at dksX1_writePerson_6 3 rfl rfl)
theorem dX1_writePerson_145 : decode cX1_writePerson 145 = .ok (.aload_n 0, 1) := dk_42 (dk_at dksX1_writePerson_6 6 rfl rfl)
theorem dX1_writePerson_146 : decode cX1_writePerson 146 = .ok (.aload_n 3, 1) := dk_45 (dk_at dksX1_writePerson_6 7 rfl rfl)
theorem dX1_writePerson_147 : decode cX1_writePerson 147 = .ok (.invokevirtual 344, 3) := dk_182 1 88 (dk_at dksX1_writePerson_6 8 rfl rfl)
theorem dX1_writePerson_150 : decode cX1_writePerson 150 = .ok (.ireturn, 1) := dk_172 (dk_at dksX1_writePerson_6 11 rfl rfl)
def dkwX1_write_0 : List UInt8 := [42, 43, 182, 0, 158, 181, 0, 87, 42, 180, 0, 87, 182, 0, 162, 172]
abbrev dktX1_write_0 : List UInt8 := dkwX1_write_0 ++ []
theorem dksX1_write_0 : cX1_write.data.toList.drop 0 = dktX1_write_0 := by decide +kernel
theorem dX1_write_0 : decode cX1_write 0 = .ok (.aload_n 0, 1) := dk_42 (dk_at dksX1_write_0 0 rfl rfl)
theorem dX1_write_1 : decode cX1_write 1 = .ok (.aload_n 1, 1) := dk_43 (dk_at dksX1_write_0 1 rfl rfl)
theorem dX1_write_2 : decode cX1_write 2 = .ok (.invokevirtual 158, 3) := dk_182 0 158 (dk_at dksX1_write_0 2 rfl rfl)
theorem dX1_write_5 : decode cX1_write 5 = .ok (.putfield 87, 3) := dk_181 0 87 (dk_at dksX1_write_0 5 rfl rfl)
theorem dX1_write_8 : decode cX1_write 8 = .ok (.aload_n 0, 1) := dk_42 (dk_at dksX1_write_0 8 rfl rfl)
theorem dX1_write_9 : decode cX1_write 9 = .ok (.getfield 87, 3) := dk_180 0 87 (dk_at dksX1_write_0 9 rfl rfl)
theorem dX1_write_12 : decode cX1_write 12 = .ok (.invokevirtual 162, 3) := dk_182 0 162 (dk_at dksX1_write_0 12 rfl rfl)
theorem dX1_write_15 : decode cX1_write 15 = .ok (.ireturn, 1) := dk_172 (dk_at dksX1_write_0 15 rfl rfl)
def dkwX1_writeLine_2 : List UInt8 := [180, 0, 180, 58, 4, 167, 255, 229, 42, 45, 182, 1, 88, 172]
abbrev dktX1_writeLine_2 : List UInt8 := dkwX1_writeLine_2 ++ []
def dkwX1_writeLine_1 : List UInt8 := [58, 4, 25, 4, 198, 0, 28, 45, 16, 60, 182, 1, 79, 25, 4, 180, 0, 137, 182, 1, 70, 87, 25, 4]
abbrev dktX1_writeLine_1 : List UInt8 := dkwX1_writeLine_1 ++ dktX1_writeLine_2
def dkwX1_writeLine_0 : List UInt8 := [42, 27, 182, 0, 172, 77, 187, 0, 78, 89, 183, 0, 80, 78, 45, 27, 182, 1, 70, 87, 44, 180, 0, 180]
abbrev dktX1_writeLine_0 : List UInt8 := dkwX1_writeLine_0 ++ dktX1_writeLine_1
theorem dksX1_writeLine_0 : cX1_writeLine.data.toList.drop 0 = dktX1_writeLine_0 := by decide +kernel
theorem dksX1_writeLine_1 : cX1_writeLine.data.toList.drop 24 = dktX1_writeLine_1 := dk_seg dksX1_writeLine_0 24 rfl rfl
theorem dksX1_writeLine_2 : cX1_writeLine.data.toList.drop 48 = dktX1_writeLine_2 := dk_seg dksX1_writeLine_1 24 rfl rfl
theorem dX1_writeLine_0 : decode cX1_writeLine 0 = .ok (.aload_n 0, 1) := dk_42 (dk_at dksX1_writeLine_0 0 rfl rfl)
theorem dX1_writeLine_1 : decode cX1_writeLine 1 = .ok (.iload_n 1, 1) := dk_27 (dk_at dksX1_writeLine_0 1 rfl rfl)
theorem dX1_writeLine_2 : decode cX1_writeLine 2 = .ok (.invokevirtual 172, 3) := dk_182 0 172 (dk_at dksX1_writeLine_0 2 rfl rfl)
theorem dX1_writeLine_5 : decode cX1_writeLine 5 = .ok (.astore_n 2, 1) := dk_77 (dk_at dksX1_writeLine_0 5 rfl rfl)
theorem dX1_writeLine_6 : decode cX1_writeLine 6 = .ok (.new 78, 3) := dk_187 0 78 (dk_at dksX1_writeLine_0 6 rfl rfl)
theorem dX1_writeLine_9 : decode cX1_writeLine 9 = .ok (.dup, 1) := dk_89 (dk_at dksX1_writeLine_0 9 rfl rfl)
theorem dX1_writeLine_10 : decode cX1_writeLine 10 = .ok (.invokespecial 80, 3) := dk_183 0 80 (dk_at dksX1_writeLine_0 10 rfl rfl)
theorem dX1_writeLine_13 : decode cX1_writeLine 13 = .ok (.astore_n 3, 1) := dk_78 (dk_at dksX1_writeLine_0 13 rfl rfl)
theorem dX1_writeLine_14 : decode cX1_writeLine 14 = .ok (.aload_n 3, 1) := dk_45 (dk_at dksX1_writeLine_0 14 rfl rfl)
theorem dX1_writeLine_15 : decode cX1_writeLine 15 = .ok (.iload_n 1, 1) := dk_27 (dk_at dksX1_writeLine_0 15 rfl rfl)
theorem dX1_writeLine_16 : decode cX1_writeLine 16 = .ok (.invokevirtual 326, 3) := dk_182 1 70 (dk_at dksX1_writeLine_0 16 rfl rfl)
theorem dX1_writeLine_19 : decode cX1_writeLine 19 = .ok (.pop, 1) := dk_87 (dk_at dksX1_writeLine_0 19 rfl rfl)
theorem dX1_writeLine_20 : decode cX1_writeLine 20 = .ok (.aload_n 2, 1) := dk_44 (dk_at dksX1_writeLine_0 20 rfl rfl)
theorem dX1_writeLine_21 : decode cX1_writeLine 21 = .ok (.getfield 180, 3) := dk_180 0 180 (dk_at dksX1_writeLine_0 21 rfl rfl)
theorem dX1_writeLine_24 : decode cX1_writeLine 24 = .ok (.astore 4, 2) := dk_58 4 (dk_at dksX1_writeLine_1 0 rfl rfl)
theorem dX1_writeLine_26 : decode cX1_writeLine 26 = .ok (.aload 4, 2) := dk_25 4 (dk_at dksX1_writeLine_1 2 rfl rfl)
theorem dX1_writeLine_28 : decode cX1_writeLine 28 = .ok (.ifnull 28, 3) := dk_198 0 28 (dk_at dksX1_writeLine_1 4 rfl rfl)
theorem dX1_writeLine_31 : decode cX1_writeLine 31 = .ok (.aload_n 3, 1) := dk_45 (dk_at dksX1_writeLine_1 7 rfl rfl)
theorem dX1_writeLine_32 : decode cX1_writeLine 32 = .ok (.bipush 60, 2) := dk_16 60 (dk_at dksX1_writeLine_1 8 rfl rfl)
theorem dX1_writeLine_34 : decode cX1_writeLine 34 = .ok (.invokevirtual 335, 3) := dk_182 1 79 (dk_at dksX1_writeLine_1 10 rfl rfl)
theorem dX1_writeLine_37 : decode cX1_writeLine 37 = .ok (.aload 4, 2) := dk_25 4 (dk_at dksX1_writeLine_1 13 rfl rfl)
theorem dX1_writeLine_39 : decode cX1_writeLine 39 = .ok (.getfield 137, 3) := dk_180 0 137 (dk_at dksX1_writeLine_1 15 rfl rfl)
theorem dX1_writeLine_42 : decode cX1_writeLine 42 = .ok (.invokevirtual 326, 3) := dk_182 1 70 (dk_at dksX1_writeLine_1 18 rfl rfl)
theorem dX1_writeLine_45 : decode cX1_writeLine 45 = .ok (.pop, 1) := dk_87 (dk_at dksX1_writeLine_1 21 rfl rfl)
theorem dX1_writeLine_46 : decode cX1_writeLine 46 = .ok (.aload 4, 2) := dk_25 4 (dk_at dksX1_writeLine_1 22 rfl rfl)
theorem dX1_writeLine_48 : decode cX1_writeLine 48 = .ok (.getfield 180, 3) := dk_180 0 180 (dk_at dksX1_writeLine_2 0 rfl rfl)
theorem dX1_writeLine_51 : decode cX1_writeLine 51 = .ok (.astore 4, 2) := dk_58 4 (dk_at dksX1_writeLine_2 3 rfl rfl)
theorem dX1_writeLine_53 : decode cX1_writeLine 53 = .ok (.goto (-27), 3) := dk_167 255 229 (dk_at dksX1_writeLine_2 5 rfl rfl)
theorem dX1_writeLine_56 : decode cX1_writeLine 56 = .ok (.aload_n 0, 1) := dk_42 (dk_at dksX1_writeLine_2 8 rfl rfl)
theorem dX1_writeLine_57 : decode cX1_writeLine 57 = .ok (.aload_n 3, 1) := dk_45 (dk_at dksX1_writeLine_2 9 rfl rfl)
theorem dX1_writeLine_58 : decode cX1_writeLine 58 = .ok (.invokevirtual 344, 3) := dk_182 1 88 (dk_at dksX1_writeLine_2 10 rfl rfl)
theorem dX1_writeLine_61 : decode cX1_writeLine 61 = .ok (.ireturn, 1) := dk_172 (dk_at dksX1_writeLine_2 13 rfl rfl)
def dkwX1_outputAt_1 : List UInt8 := [182, 1, 82, 172]
abbrev dktX1_outputAt_1 : List UInt8 := dkwX1_outputAt_1 ++ []
def dkwX1_outputAt_0 : List UInt8 := [27, 3, 42, 180, 0, 87, 182, 0, 162, 4, 100, 184, 0, 11, 184, 0, 114, 42, 180, 0, 87, 27]
abbrev dktX1_outputAt_0 : List UInt8 := dkwX1_outputAt_0 ++ dktX1_outputAt_1
theorem dksX1_outputAt_0 : cX1_outputAt.data.toList.drop 0 = dktX1_outputAt_0 := by decide +kernel
theorem dksX1_outputAt_1 : cX1_outputAt.data.toList.drop 22 = dktX1_outputAt_1 := dk_seg dksX1_outputAt_0 22 rfl rfl
theorem dX1_outputAt_0 : decode cX1_outputAt 0 = .ok (.iload_n 1, 1) := dk_27 (dk_at dksX1_outputAt_0 0 rfl rfl)
theorem dX1_outputAt_1 : decode cX1_outputAt 1 = .ok (.iconst 0, 1) := dk_3 (dk_at dksX1_outputAt_0 1 rfl rfl)
theorem dX1_outputAt_2 : decode cX1_outputAt 2 = .ok (.aload_n 0, 1) := dk_42 (dk_at dksX1_outputAt_0 2 rfl rfl)
theorem dX1_outputAt_3 : decode cX1_outputAt 3 = .ok (.getfield 87, 3) := dk_180 0 87 (dk_at dksX1_outputAt_0 3 rfl rfl)
theorem dX1_outputAt_6 : decode cX1_outputAt 6 = .ok (.invokevirtual 162, 3) := dk_182 0 162 (dk_at dksX1_outputAt_0 6 rfl rfl)
theorem dX1_outputAt_9 : decode cX1_outputAt 9 = .ok (.iconst 1, 1) := dk_4 (dk_at dksX1_outputAt_0 9 rfl rfl)
theorem dX1_outputAt_10 : decode cX1_outputAt 10 = .ok (.isub, 1) := dk_100 (dk_at dksX1_outputAt_0 10 rfl rfl)
theorem dX1_outputAt_11 : decode cX1_outputAt 11 = .ok (.invokestatic 11, 3) := dk_184 0 11 (dk_at dksX1_outputAt_0 11 rfl rfl)
theorem dX1_outputAt_14 : decode cX1_outputAt 14 = .ok (.invokestatic 114, 3) := dk_184 0 114 (dk_at dksX1_outputAt_0 14 rfl rfl)
theorem dX1_outputAt_17 : decode cX1_outputAt 17 = .ok (.aload_n 0, 1) := dk_42 (dk_at dksX1_outputAt_0 17 rfl rfl)
theorem dX1_outputAt_18 : decode cX1_outputAt 18 = .ok (.getfield 87, 3) := dk_180 0 87 (dk_at dksX1_outputAt_0 18 rfl rfl)
theorem dX1_outputAt_21 : decode cX1_outputAt 21 = .ok (.iload_n 1, 1) := dk_27 (dk_at dksX1_outputAt_0 21 rfl rfl)
theorem dX1_outputAt_22 : decode cX1_outputAt 22 = .ok (.invokevirtual 338, 3) := dk_182 1 82 (dk_at dksX1_outputAt_1 0 rfl rfl)
theorem dX1_outputAt_25 : decode cX1_outputAt 25 = .ok (.ireturn, 1) := dk_172 (dk_at dksX1_outputAt_1 3 rfl rfl)
def dkwX1_appendInput_1 : List UInt8 := [167, 0, 4, 3, 184, 1, 93, 42, 180, 0, 81, 27, 182, 1, 79, 87, 42, 180, 0, 81, 182, 1, 92, 172]
abbrev dktX1_appendInput_1 : List UInt8 := dkwX1_appendInput_1 ++ []
def dkwX1_appendInput_0 : List UInt8 := [27, 16, 32, 16, 126, 184, 0, 11, 184, 0, 235, 42, 180, 0, 81, 182, 1, 92, 16, 60, 162, 0, 7, 4]
abbrev dktX1_appendInput_0 : List UInt8 := dkwX1_appendInput_0 ++ dktX1_appendInput_1
theorem dksX1_appendInput_0 : cX1_appendInput.data.toList.drop 0 = dktX1_appendInput_0 := by decide +kernel
theorem dksX1_appendInput_1 : cX1_appendInput.data.toList.drop 24 = dktX1_appendInput_1 := dk_seg dksX1_appendInput_0 24 rfl rfl
theorem dX1_appendInput_0 : decode cX1_appendInput 0 = .ok (.iload_n 1, 1) := dk_27 (dk_at dksX1_appendInput_0 0 rfl rfl)
theorem dX1_appendInput_1 : decode cX1_appendInput 1 = .ok (.bipush 32, 2) := dk_16 32 (dk_at dksX1_appendInput_0 1 rfl rfl)
theorem dX1_appendInput_3 : decode cX1_appendInput 3 = .ok (.bipush 126, 2) := dk_16 126 (dk_at dksX1_appendInput_0 3 rfl rfl)
theorem dX1_appendInput_5 : decode cX1_appendInput 5 = .ok (.invokestatic 11, 3) := dk_184 0 11 (dk_at dksX1_appendInput_0 5 rfl rfl)
theorem dX1_appendInput_8 : decode cX1_appendInput 8 = .ok (.invokestatic 235, 3) := dk_184 0 235 (dk_at dksX1_appendInput_0 8 rfl rfl)
theorem dX1_appendInput_11 : decode cX1_appendInput 11 = .ok (.aload_n 0, 1) := dk_42 (dk_at dksX1_appendInput_0 11 rfl rfl)
theorem dX1_appendInput_12 : decode cX1_appendInput 12 = .ok (.getfield 81, 3) := dk_180 0 81 (dk_at dksX1_appendInput_0 12 rfl rfl)
theorem dX1_appendInput_15 : decode cX1_appendInput 15 = .ok (.invokevirtual 348, 3) := dk_182 1 92 (dk_at dksX1_appendInput_0 15 rfl rfl)
theorem dX1_appendInput_18 : decode cX1_appendInput 18 = .ok (.bipush 60, 2) := dk_16 60 (dk_at dksX1_appendInput_0 18 rfl rfl)
theorem dX1_appendInput_20 : decode cX1_appendInput 20 = .ok (.if_icmp .ge 7, 3) := dk_162 0 7 (dk_at dksX1_appendInput_0 20 rfl rfl)
theorem dX1_appendInput_23 : decode cX1_appendInput 23 = .ok (.iconst 1, 1) := dk_4 (dk_at dksX1_appendInput_0 23 rfl rfl)
theorem dX1_appendInput_24 : decode cX1_appendInput 24 = .ok (.goto 4, 3) := dk_167 0 4 (dk_at dksX1_appendInput_1 0 rfl rfl)
theorem dX1_appendInput_27 : decode cX1_appendInput 27 = .ok (.iconst 0, 1) := dk_3 (dk_at dksX1_appendInput_1 3 rfl rfl)
theorem dX1_appendInput_28 : decode cX1_appendInput 28 = .ok (.invokestatic 349, 3) := dk_184 1 93 (dk_at dksX1_appendInput_1 4 rfl rfl)
theorem dX1_appendInput_31 : decode cX1_appendInput 31 = .ok (.aload_n 0, 1) := dk_42 (dk_at dksX1_appendInput_1 7 rfl rfl)
theorem dX1_appendInput_32 : decode cX1_appendInput 32 = .ok (.getfield 81, 3) := dk_180 0 81 (dk_at dksX1_appendInput_1 8 rfl rfl)
theorem dX1_appendInput_35 : decode cX1_appendInput 35 = .ok (.iload_n 1, 1) := dk_27 (dk_at dksX1_appendInput_1 11 rfl rfl)
theorem dX1_appendInput_36 : decode cX1_appendInput 36 = .ok (.invokevirtual 335, 3) := dk_182 1 79 (dk_at dksX1_appendInput_1 12 rfl rfl)
theorem dX1_appendInput_39 : decode cX1_appendInput 39 = .ok (.pop, 1) := dk_87 (dk_at dksX1_appendInput_1 15 rfl rfl)
theorem dX1_appendInput_40 : decode cX1_appendInput 40 = .ok (.aload_n 0, 1) := dk_42 (dk_at dksX1_appendInput_1 16 rfl rfl)
theorem dX1_appendInput_41 : decode cX1_appendInput 41 = .ok (.getfield 81, 3) := dk_180 0 81 (dk_at dksX1_appendInput_1 17 rfl rfl)
theorem dX1_appendInput_44 : decode cX1_appendInput 44 = .ok (.invokevirtual 348, 3) := dk_182 1 92 (dk_at dksX1_appendInput_1 20 rfl rfl)
theorem dX1_appendInput_47 : decode cX1_appendInput 47 = .ok (.ireturn, 1) := dk_172 (dk_at dksX1_appendInput_1 23 rfl rfl)
def dkwX1_requireState_0 : List UInt8 := [26, 154, 0, 11, 187, 0, 24, 89, 183, 0, 26, 191, 177]
abbrev dktX1_requireState_0 : List UInt8 := dkwX1_requireState_0 ++ []
theorem dksX1_requireState_0 : cX1_requireState.data.toList.drop 0 = dktX1_requireState_0 := by decide +kernel
theorem dX1_requireState_0 : decode cX1_requireState 0 = .ok (.iload_n 0, 1) := dk_26 (dk_at dksX1_requireState_0 0 rfl rfl)
theorem dX1_requireState_1 : decode cX1_requireState 1 = .ok (.ifCond .ne 11, 3) := dk_154 0 11 (dk_at dksX1_requireState_0 1 rfl rfl)
theorem dX1_requireState_4 : decode cX1_requireState 4 = .ok (.new 24, 3) := dk_187 0 24 (dk_at dksX1_requireState_0 4 rfl rfl)
theorem dX1_requireState_7 : decode cX1_requireState 7 = .ok (.dup, 1) := dk_89 (dk_at dksX1_requireState_0 7 rfl rfl)
theorem dX1_requireState_8 : decode cX1_requireState 8 = .ok (.invokespecial 26, 3) := dk_183 0 26 (dk_at dksX1_requireState_0 8 rfl rfl)
theorem dX1_requireState_11 : decode cX1_requireState 11 = .ok (.athrow, 1) := dk_191 (dk_at dksX1_requireState_0 11 rfl rfl)
theorem dX1_requireState_12 : decode cX1_requireState 12 = .ok (.return_, 1) := dk_177 (dk_at dksX1_requireState_0 12 rfl rfl)
def dkwX1_execute_2 : List UInt8 := [4, 167, 0, 4, 3, 184, 0, 235, 187, 0, 24, 89, 183, 0, 26, 191, 77, 42, 44, 182, 0, 152, 191]
abbrev dktX1_execute_2 : List UInt8 := dkwX1_execute_2 ++ []
def dkwX1_execute_1 : List UInt8 := [193, 1, 115, 62, 42, 29, 153, 0, 7, 44, 167, 0, 7, 42, 180, 1, 117, 181, 1, 117, 29, 154, 0, 7]
abbrev dktX1_execute_1 : List UInt8 := dkwX1_execute_1 ++ dktX1_execute_2
def dkwX1_execute_0 : List UInt8 := [42, 180, 0, 69, 182, 0, 141, 76, 42, 43, 182, 1, 112, 61, 42, 43, 28, 182, 0, 148, 172, 77, 44]
abbrev dktX1_execute_0 : List UInt8 := dkwX1_execute_0 ++ dktX1_execute_1
theorem dksX1_execute_0 : cX1_execute.data.toList.drop 0 = dktX1_execute_0 := by decide +kernel
theorem dksX1_execute_1 : cX1_execute.data.toList.drop 23 = dktX1_execute_1 := dk_seg dksX1_execute_0 23 rfl rfl
theorem dksX1_execute_2 : cX1_execute.data.toList.drop 47 = dktX1_execute_2 := dk_seg dksX1_execute_1 24 rfl rfl
theorem dX1_execute_0 : decode cX1_execute 0 = .ok (.aload_n 0, 1) := dk_42 (dk_at dksX1_execute_0 0 rfl rfl)
theorem dX1_execute_1 : decode cX1_execute 1 = .ok (.getfield 69, 3) := dk_180 0 69 (dk_at dksX1_execute_0 1 rfl rfl)
theorem dX1_execute_4 : decode cX1_execute 4 = .ok (.invokevirtual 141, 3) := dk_182 0 141 (dk_at dksX1_execute_0 4 rfl rfl)
theorem dX1_execute_7 : decode cX1_execute 7 = .ok (.astore_n 1, 1) := dk_76 (dk_at dksX1_execute_0 7 rfl rfl)
theorem dX1_execute_8 : decode cX1_execute 8 = .ok (.aload_n 0, 1) := dk_42 (dk_at dksX1_execute_0 8 rfl rfl)
theorem dX1_execute_9 : decode cX1_execute 9 = .ok (.aload_n 1, 1) := dk_43 (dk_at dksX1_execute_0 9 rfl rfl)
theorem dX1_execute_10 : decode cX1_execute 10 = .ok (.invokevirtual 368, 3) := dk_182 1 112 (dk_at dksX1_execute_0 10 rfl rfl)
theorem dX1_execute_13 : decode cX1_execute 13 = .ok (.istore_n 2, 1) := dk_61 (dk_at dksX1_execute_0 13 rfl rfl)
theorem dX1_execute_14 : decode cX1_execute 14 = .ok (.aload_n 0, 1) := dk_42 (dk_at dksX1_execute_0 14 rfl rfl)
theorem dX1_execute_15 : decode cX1_execute 15 = .ok (.aload_n 1, 1) := dk_43 (dk_at dksX1_execute_0 15 rfl rfl)
theorem dX1_execute_16 : decode cX1_execute 16 = .ok (.iload_n 2, 1) := dk_28 (dk_at dksX1_execute_0 16 rfl rfl)
theorem dX1_execute_17 : decode cX1_execute 17 = .ok (.invokevirtual 148, 3) := dk_182 0 148 (dk_at dksX1_execute_0 17 rfl rfl)
theorem dX1_execute_20 : decode cX1_execute 20 = .ok (.ireturn, 1) := dk_172 (dk_at dksX1_execute_0 20 rfl rfl)
theorem dX1_execute_21 : decode cX1_execute 21 = .ok (.astore_n 2, 1) := dk_77 (dk_at dksX1_execute_0 21 rfl rfl)
theorem dX1_execute_22 : decode cX1_execute 22 = .ok (.aload_n 2, 1) := dk_44 (dk_at dksX1_execute_0 22 rfl rfl)
theorem dX1_execute_23 : decode cX1_execute 23 = .ok (.instanceof 371, 3) := dk_193 1 115 (dk_at dksX1_execute_1 0 rfl rfl)
theorem dX1_execute_26 : decode cX1_execute 26 = .ok (.istore_n 3, 1) := dk_62 (dk_at dksX1_execute_1 3 rfl rfl)
theorem dX1_execute_27 : decode cX1_execute 27 = .ok (.aload_n 0, 1) := dk_42 (dk_at dksX1_execute_1 4 rfl rfl)
theorem dX1_execute_28 : decode cX1_execute 28 = .ok (.iload_n 3, 1) := dk_29 (dk_at dksX1_execute_1 5 rfl rfl)
theorem dX1_execute_29 : decode cX1_execute 29 = .ok (.ifCond .eq 7, 3) := dk_153 0 7 (dk_at dksX1_execute_1 6 rfl rfl)
theorem dX1_execute_32 : decode cX1_execute 32 = .ok (.aload_n 2, 1) := dk_44 (dk_at dksX1_execute_1 9 rfl rfl)
theorem dX1_execute_33 : decode cX1_execute 33 = .ok (.goto 7, 3) := dk_167 0 7 (dk_at dksX1_execute_1 10 rfl rfl)
theorem dX1_execute_36 : decode cX1_execute 36 = .ok (.aload_n 0, 1) := dk_42 (dk_at dksX1_execute_1 13 rfl rfl)
theorem dX1_execute_37 : decode cX1_execute 37 = .ok (.getfield 373, 3) := dk_180 1 117 (dk_at dksX1_execute_1 14 rfl rfl)
theorem dX1_execute_40 : decode cX1_execute 40 = .ok (.putfield 373, 3) := dk_181 1 117 (dk_at dksX1_execute_1 17 rfl rfl)
theorem dX1_execute_43 : decode cX1_execute 43 = .ok (.iload_n 3, 1) := dk_29 (dk_at dksX1_execute_1 20 rfl rfl)
theorem dX1_execute_44 : decode cX1_execute 44 = .ok (.ifCond .ne 7, 3) := dk_154 0 7 (dk_at dksX1_execute_1 21 rfl rfl)
theorem dX1_execute_47 : decode cX1_execute 47 = .ok (.iconst 1, 1) := dk_4 (dk_at dksX1_execute_2 0 rfl rfl)
theorem dX1_execute_48 : decode cX1_execute 48 = .ok (.goto 4, 3) := dk_167 0 4 (dk_at dksX1_execute_2 1 rfl rfl)
theorem dX1_execute_51 : decode cX1_execute 51 = .ok (.iconst 0, 1) := dk_3 (dk_at dksX1_execute_2 4 rfl rfl)
theorem dX1_execute_52 : decode cX1_execute 52 = .ok (.invokestatic 235, 3) := dk_184 0 235 (dk_at dksX1_execute_2 5 rfl rfl)
theorem dX1_execute_55 : decode cX1_execute 55 = .ok (.new 24, 3) := dk_187 0 24 (dk_at dksX1_execute_2 8 rfl rfl)
theorem dX1_execute_58 : decode cX1_execute 58 = .ok (.dup, 1) := dk_89 (dk_at dksX1_execute_2 11 rfl rfl)
theorem dX1_execute_59 : decode cX1_execute 59 = .ok (.invokespecial 26, 3) := dk_183 0 26 (dk_at dksX1_execute_2 12 rfl rfl)
theorem dX1_execute_62 : decode cX1_execute 62 = .ok (.athrow, 1) := dk_191 (dk_at dksX1_execute_2 15 rfl rfl)
theorem dX1_execute_63 : decode cX1_execute 63 = .ok (.astore_n 2, 1) := dk_77 (dk_at dksX1_execute_2 16 rfl rfl)
theorem dX1_execute_64 : decode cX1_execute 64 = .ok (.aload_n 0, 1) := dk_42 (dk_at dksX1_execute_2 17 rfl rfl)
theorem dX1_execute_65 : decode cX1_execute 65 = .ok (.aload_n 2, 1) := dk_44 (dk_at dksX1_execute_2 18 rfl rfl)
theorem dX1_execute_66 : decode cX1_execute 66 = .ok (.invokevirtual 152, 3) := dk_182 0 152 (dk_at dksX1_execute_2 19 rfl rfl)
theorem dX1_execute_69 : decode cX1_execute 69 = .ok (.athrow, 1) := dk_191 (dk_at dksX1_execute_2 22 rfl rfl)
def dkwX1_executed_1 : List UInt8 := [180, 0, 81, 3, 182, 1, 108, 28, 172, 78, 42, 180, 0, 81, 3, 182, 1, 108, 45, 191]
abbrev dktX1_executed_1 : List UInt8 := dkwX1_executed_1 ++ []
def dkwX1_executed_0 : List UInt8 := [187, 1, 96, 89, 42, 180, 0, 81, 182, 0, 158, 183, 1, 98, 182, 1, 101, 43, 184, 1, 105, 61, 42]
abbrev dktX1_executed_0 : List UInt8 := dkwX1_executed_0 ++ dktX1_executed_1
theorem dksX1_executed_0 : cX1_executed.data.toList.drop 0 = dktX1_executed_0 := by decide +kernel
theorem dksX1_executed_1 : cX1_executed.data.toList.drop 23 = dktX1_executed_1 := dk_seg dksX1_executed_0 23 rfl rfl
theorem dX1_executed_0 : decode cX1_executed 0 = .ok (.new 352, 3) := dk_187 1 96 (dk_at dksX1_executed_0 0 rfl rfl)
theorem dX1_executed_3 : decode cX1_executed 3 = .ok (.dup, 1) := dk_89 (dk_at dksX1_executed_0 3 rfl rfl)
theorem dX1_executed_4 : decode cX1_executed 4 = .ok (.aload_n 0, 1) := dk_42 (dk_at dksX1_executed_0 4 rfl rfl)
theorem dX1_executed_5 : decode cX1_executed 5 = .ok (.getfield 81, 3) := dk_180 0 81 (dk_at dksX1_executed_0 5 rfl rfl)
theorem dX1_executed_8 : decode cX1_executed 8 = .ok (.invokevirtual 158, 3) := dk_182 0 158 (dk_at dksX1_executed_0 8 rfl rfl)
theorem dX1_executed_11 : decode cX1_executed 11 = .ok (.invokespecial 354, 3) := dk_183 1 98 (dk_at dksX1_executed_0 11 rfl rfl)
theorem dX1_executed_14 : decode cX1_executed 14 = .ok (.invokevirtual 357, 3) := dk_182 1 101 (dk_at dksX1_executed_0 14 rfl rfl)
theorem dX1_executed_17 : decode cX1_executed 17 = .ok (.aload_n 1, 1) := dk_43 (dk_at dksX1_executed_0 17 rfl rfl)
theorem dX1_executed_18 : decode cX1_executed 18 = .ok (.invokestatic 361, 3) := dk_184 1 105 (dk_at dksX1_executed_0 18 rfl rfl)
theorem dX1_executed_21 : decode cX1_executed 21 = .ok (.istore_n 2, 1) := dk_61 (dk_at dksX1_executed_0 21 rfl rfl)
theorem dX1_executed_22 : decode cX1_executed 22 = .ok (.aload_n 0, 1) := dk_42 (dk_at dksX1_executed_0 22 rfl rfl)
theorem dX1_executed_23 : decode cX1_executed 23 = .ok (.getfield 81, 3) := dk_180 0 81 (dk_at dksX1_executed_1 0 rfl rfl)
theorem dX1_executed_26 : decode cX1_executed 26 = .ok (.iconst 0, 1) := dk_3 (dk_at dksX1_executed_1 3 rfl rfl)
theorem dX1_executed_27 : decode cX1_executed 27 = .ok (.invokevirtual 364, 3) := dk_182 1 108 (dk_at dksX1_executed_1 4 rfl rfl)
theorem dX1_executed_30 : decode cX1_executed 30 = .ok (.iload_n 2, 1) := dk_28 (dk_at dksX1_executed_1 7 rfl rfl)
theorem dX1_executed_31 : decode cX1_executed 31 = .ok (.ireturn, 1) := dk_172 (dk_at dksX1_executed_1 8 rfl rfl)
theorem dX1_executed_32 : decode cX1_executed 32 = .ok (.astore_n 3, 1) := dk_78 (dk_at dksX1_executed_1 9 rfl rfl)
theorem dX1_executed_33 : decode cX1_executed 33 = .ok (.aload_n 0, 1) := dk_42 (dk_at dksX1_executed_1 10 rfl rfl)
theorem dX1_executed_34 : decode cX1_executed 34 = .ok (.getfield 81, 3) := dk_180 0 81 (dk_at dksX1_executed_1 11 rfl rfl)
theorem dX1_executed_37 : decode cX1_executed 37 = .ok (.iconst 0, 1) := dk_3 (dk_at dksX1_executed_1 14 rfl rfl)
theorem dX1_executed_38 : decode cX1_executed 38 = .ok (.invokevirtual 364, 3) := dk_182 1 108 (dk_at dksX1_executed_1 15 rfl rfl)
theorem dX1_executed_41 : decode cX1_executed 41 = .ok (.aload_n 3, 1) := dk_45 (dk_at dksX1_executed_1 18 rfl rfl)
theorem dX1_executed_42 : decode cX1_executed 42 = .ok (.athrow, 1) := dk_191 (dk_at dksX1_executed_1 19 rfl rfl)
def dkwX1_run_2 : List UInt8 := [28, 25, 5, 183, 0, 60, 191, 132, 2, 1, 167, 255, 207, 28, 172]
abbrev dktX1_run_2 : List UInt8 := dkwX1_run_2 ++ []
def dkwX1_run_1 : List UInt8 := [192, 0, 54, 58, 4, 25, 4, 43, 182, 0, 56, 54, 5, 167, 0, 18, 58, 5, 187, 0, 33, 89, 16, 12]
abbrev dktX1_run_1 : List UInt8 := dkwX1_run_1 ++ dktX1_run_2
def dkwX1_run_0 : List UInt8 := [3, 61, 42, 182, 0, 38, 78, 45, 185, 0, 44, 1, 0, 153, 0, 46, 45, 185, 0, 50, 1, 0]
abbrev dktX1_run_0 : List UInt8 := dkwX1_run_0 ++ dktX1_run_1
theorem dksX1_run_0 : cX1_run.data.toList.drop 0 = dktX1_run_0 := by decide +kernel
theorem dksX1_run_1 : cX1_run.data.toList.drop 22 = dktX1_run_1 := dk_seg dksX1_run_0 22 rfl rfl
theorem dksX1_run_2 : cX1_run.data.toList.drop 46 = dktX1_run_2 := dk_seg dksX1_run_1 24 rfl rfl
theorem dX1_run_0 : decode cX1_run 0 = .ok (.iconst 0, 1) := dk_3 (dk_at dksX1_run_0 0 rfl rfl)
theorem dX1_run_1 : decode cX1_run 1 = .ok (.istore_n 2, 1) := dk_61 (dk_at dksX1_run_0 1 rfl rfl)
theorem dX1_run_2 : decode cX1_run 2 = .ok (.aload_n 0, 1) := dk_42 (dk_at dksX1_run_0 2 rfl rfl)
theorem dX1_run_3 : decode cX1_run 3 = .ok (.invokevirtual 38, 3) := dk_182 0 38 (dk_at dksX1_run_0 3 rfl rfl)
theorem dX1_run_6 : decode cX1_run 6 = .ok (.astore_n 3, 1) := dk_78 (dk_at dksX1_run_0 6 rfl rfl)
theorem dX1_run_7 : decode cX1_run 7 = .ok (.aload_n 3, 1) := dk_45 (dk_at dksX1_run_0 7 rfl rfl)
theorem dX1_run_8 : decode cX1_run 8 = .ok (.invokeinterface 44 1, 5) := by decide +kernel
theorem dX1_run_13 : decode cX1_run 13 = .ok (.ifCond .eq 46, 3) := dk_153 0 46 (dk_at dksX1_run_0 13 rfl rfl)
theorem dX1_run_16 : decode cX1_run 16 = .ok (.aload_n 3, 1) := dk_45 (dk_at dksX1_run_0 16 rfl rfl)
theorem dX1_run_17 : decode cX1_run 17 = .ok (.invokeinterface 50 1, 5) := by decide +kernel
theorem dX1_run_22 : decode cX1_run 22 = .ok (.checkcast 54, 3) := dk_192 0 54 (dk_at dksX1_run_1 0 rfl rfl)
theorem dX1_run_25 : decode cX1_run 25 = .ok (.astore 4, 2) := dk_58 4 (dk_at dksX1_run_1 3 rfl rfl)
theorem dX1_run_27 : decode cX1_run 27 = .ok (.aload 4, 2) := dk_25 4 (dk_at dksX1_run_1 5 rfl rfl)
theorem dX1_run_29 : decode cX1_run 29 = .ok (.aload_n 1, 1) := dk_43 (dk_at dksX1_run_1 7 rfl rfl)
theorem dX1_run_30 : decode cX1_run 30 = .ok (.invokevirtual 56, 3) := dk_182 0 56 (dk_at dksX1_run_1 8 rfl rfl)
theorem dX1_run_33 : decode cX1_run 33 = .ok (.istore 5, 2) := dk_54 5 (dk_at dksX1_run_1 11 rfl rfl)
theorem dX1_run_35 : decode cX1_run 35 = .ok (.goto 18, 3) := dk_167 0 18 (dk_at dksX1_run_1 13 rfl rfl)
theorem dX1_run_38 : decode cX1_run 38 = .ok (.astore 5, 2) := dk_58 5 (dk_at dksX1_run_1 16 rfl rfl)
theorem dX1_run_40 : decode cX1_run 40 = .ok (.new 33, 3) := dk_187 0 33 (dk_at dksX1_run_1 18 rfl rfl)
theorem dX1_run_43 : decode cX1_run 43 = .ok (.dup, 1) := dk_89 (dk_at dksX1_run_1 21 rfl rfl)
theorem dX1_run_44 : decode cX1_run 44 = .ok (.bipush 12, 2) := dk_16 12 (dk_at dksX1_run_1 22 rfl rfl)
theorem dX1_run_46 : decode cX1_run 46 = .ok (.iload_n 2, 1) := dk_28 (dk_at dksX1_run_2 0 rfl rfl)
theorem dX1_run_47 : decode cX1_run 47 = .ok (.aload 5, 2) := dk_25 5 (dk_at dksX1_run_2 1 rfl rfl)
theorem dX1_run_49 : decode cX1_run 49 = .ok (.invokespecial 60, 3) := dk_183 0 60 (dk_at dksX1_run_2 3 rfl rfl)
theorem dX1_run_52 : decode cX1_run 52 = .ok (.athrow, 1) := dk_191 (dk_at dksX1_run_2 6 rfl rfl)
theorem dX1_run_53 : decode cX1_run 53 = .ok (.iinc 2 1, 3) := dk_132 2 1 (dk_at dksX1_run_2 7 rfl rfl)
theorem dX1_run_56 : decode cX1_run 56 = .ok (.goto (-49), 3) := dk_167 255 207 (dk_at dksX1_run_2 10 rfl rfl)
theorem dX1_run_59 : decode cX1_run 59 = .ok (.iload_n 2, 1) := dk_28 (dk_at dksX1_run_2 13 rfl rfl)
theorem dX1_run_60 : decode cX1_run 60 = .ok (.ireturn, 1) := dk_172 (dk_at dksX1_run_2 14 rfl rfl)
def dkwX1_syntaxErrorOffset_0 : List UInt8 := [42, 180, 1, 117, 198, 0, 7, 4, 167, 0, 4, 3, 184, 0, 134, 42, 180, 1, 117, 182, 1, 120, 172]
abbrev dktX1_syntaxErrorOffset_0 : List UInt8 := dkwX1_syntaxErrorOffset_0 ++ []
theorem dksX1_syntaxErrorOffset_0 : cX1_syntaxErrorOffset.data.toList.drop 0 = dktX1_syntaxErrorOffset_0 := by decide +kernel
theorem dX1_syntaxErrorOffset_0 : decode cX1_syntaxErrorOffset 0 = .ok (.aload_n 0, 1) := dk_42 (dk_at dksX1_syntaxErrorOffset_0 0 rfl rfl)
theorem dX1_syntaxErrorOffset_1 : decode cX1_syntaxErrorOffset 1 = .ok (.getfield 373, 3) := dk_180 1 117 (dk_at dksX1_syntaxErrorOffset_0 1 rfl rfl)
theorem dX1_syntaxErrorOffset_4 : decode cX1_syntaxErrorOffset 4 = .ok (.ifnull 7, 3) := dk_198 0 7 (dk_at dksX1_syntaxErrorOffset_0 4 rfl rfl)
theorem dX1_syntaxErrorOffset_7 : decode cX1_syntaxErrorOffset 7 = .ok (.iconst 1, 1) := dk_4 (dk_at dksX1_syntaxErrorOffset_0 7 rfl rfl)
theorem dX1_syntaxErrorOffset_8 : decode cX1_syntaxErrorOffset 8 = .ok (.goto 4, 3) := dk_167 0 4 (dk_at dksX1_syntaxErrorOffset_0 8 rfl rfl)
theorem dX1_syntaxErrorOffset_11 : decode cX1_syntaxErrorOffset 11 = .ok (.iconst 0, 1) := dk_3 (dk_at dksX1_syntaxErrorOffset_0 11 rfl rfl)
theorem dX1_syntaxErrorOffset_12 : decode cX1_syntaxErrorOffset 12 = .ok (.invokestatic 134, 3) := dk_184 0 134 (dk_at dksX1_syntaxErrorOffset_0 12 rfl rfl)
theorem dX1_syntaxErrorOffset_15 : decode cX1_syntaxErrorOffset 15 = .ok (.aload_n 0, 1) := dk_42 (dk_at dksX1_syntaxErrorOffset_0 15 rfl rfl)
theorem dX1_syntaxErrorOffset_16 : decode cX1_syntaxErrorOffset 16 = .ok (.getfield 373, 3) := dk_180 1 117 (dk_at dksX1_syntaxErrorOffset_0 16 rfl rfl)
theorem dX1_syntaxErrorOffset_19 : decode cX1_syntaxErrorOffset 19 = .ok (.invokevirtual 376, 3) := dk_182 1 120 (dk_at dksX1_syntaxErrorOffset_0 19 rfl rfl)
theorem dX1_syntaxErrorOffset_22 : decode cX1_syntaxErrorOffset 22 = .ok (.ireturn, 1) := dk_172 (dk_at dksX1_syntaxErrorOffset_0 22 rfl rfl)
def dkwX1_rejectionReason_0 : List UInt8 := [42, 180, 0, 103, 198, 0, 7, 4, 167, 0, 4, 3, 184, 0, 134, 42, 180, 0, 103, 182, 1, 125, 172]
abbrev dktX1_rejectionReason_0 : List UInt8 := dkwX1_rejectionReason_0 ++ []
theorem dksX1_rejectionReason_0 : cX1_rejectionReason.data.toList.drop 0 = dktX1_rejectionReason_0 := by decide +kernel
theorem dX1_rejectionReason_0 : decode cX1_rejectionReason 0 = .ok (.aload_n 0, 1) := dk_42 (dk_at dksX1_rejectionReason_0 0 rfl rfl)
theorem dX1_rejectionReason_1 : decode cX1_rejectionReason 1 = .ok (.getfield 103, 3) := dk_180 0 103 (dk_at dksX1_rejectionReason_0 1 rfl rfl)
theorem dX1_rejectionReason_4 : decode cX1_rejectionReason 4 = .ok (.ifnull 7, 3) := dk_198 0 7 (dk_at dksX1_rejectionReason_0 4 rfl rfl)
theorem dX1_rejectionReason_7 : decode cX1_rejectionReason 7 = .ok (.iconst 1, 1) := dk_4 (dk_at dksX1_rejectionReason_0 7 rfl rfl)
theorem dX1_rejectionReason_8 : decode cX1_rejectionReason 8 = .ok (.goto 4, 3) := dk_167 0 4 (dk_at dksX1_rejectionReason_0 8 rfl rfl)
theorem dX1_rejectionReason_11 : decode cX1_rejectionReason 11 = .ok (.iconst 0, 1) := dk_3 (dk_at dksX1_rejectionReason_0 11 rfl rfl)
theorem dX1_rejectionReason_12 : decode cX1_rejectionReason 12 = .ok (.invokestatic 134, 3) := dk_184 0 134 (dk_at dksX1_rejectionReason_0 12 rfl rfl)
theorem dX1_rejectionReason_15 : decode cX1_rejectionReason 15 = .ok (.aload_n 0, 1) := dk_42 (dk_at dksX1_rejectionReason_0 15 rfl rfl)
theorem dX1_rejectionReason_16 : decode cX1_rejectionReason 16 = .ok (.getfield 103, 3) := dk_180 0 103 (dk_at dksX1_rejectionReason_0 16 rfl rfl)
theorem dX1_rejectionReason_19 : decode cX1_rejectionReason 19 = .ok (.invokevirtual 381, 3) := dk_182 1 125 (dk_at dksX1_rejectionReason_0 19 rfl rfl)
theorem dX1_rejectionReason_22 : decode cX1_rejectionReason 22 = .ok (.ireturn, 1) := dk_172 (dk_at dksX1_rejectionReason_0 22 rfl rfl)
def dkwX1_rejectionDetail_0 : List UInt8 := [42, 180, 0, 103, 198, 0, 7, 4, 167, 0, 4, 3, 184, 0, 134, 42, 180, 0, 103, 182, 1, 120, 172]
abbrev dktX1_rejectionDetail_0 : List UInt8 := dkwX1_rejectionDetail_0 ++ []
theorem dksX1_rejectionDetail_0 : cX1_rejectionDetail.data.toList.drop 0 = dktX1_rejectionDetail_0 := by decide +kernel
theorem dX1_rejectionDetail_0 : decode cX1_rejectionDetail 0 = .ok (.aload_n 0, 1) := dk_42 (dk_at dksX1_rejectionDetail_0 0 rfl rfl)
theorem dX1_rejectionDetail_1 : decode cX1_rejectionDetail 1 = .ok (.getfield 103, 3) := dk_180 0 103 (dk_at dksX1_rejectionDetail_0 1 rfl rfl)
theorem dX1_rejectionDetail_4 : decode cX1_rejectionDetail 4 = .ok (.ifnull 7, 3) := dk_198 0 7 (dk_at dksX1_rejectionDetail_0 4 rfl rfl)
theorem dX1_rejectionDetail_7 : decode cX1_rejectionDetail 7 = .ok (.iconst 1, 1) := dk_4 (dk_at dksX1_rejectionDetail_0 7 rfl rfl)
theorem dX1_rejectionDetail_8 : decode cX1_rejectionDetail 8 = .ok (.goto 4, 3) := dk_167 0 4 (dk_at dksX1_rejectionDetail_0 8 rfl rfl)
theorem dX1_rejectionDetail_11 : decode cX1_rejectionDetail 11 = .ok (.iconst 0, 1) := dk_3 (dk_at dksX1_rejectionDetail_0 11 rfl rfl)
theorem dX1_rejectionDetail_12 : decode cX1_rejectionDetail 12 = .ok (.invokestatic 134, 3) := dk_184 0 134 (dk_at dksX1_rejectionDetail_0 12 rfl rfl)
theorem dX1_rejectionDetail_15 : decode cX1_rejectionDetail 15 = .ok (.aload_n 0, 1) := dk_42 (dk_at dksX1_rejectionDetail_0 15 rfl rfl)
theorem dX1_rejectionDetail_16 : decode cX1_rejectionDetail 16 = .ok (.getfield 103, 3) := dk_180 0 103 (dk_at dksX1_rejectionDetail_0 16 rfl rfl)
theorem dX1_rejectionDetail_19 : decode cX1_rejectionDetail 19 = .ok (.invokevirtual 376, 3) := dk_182 1 120 (dk_at dksX1_rejectionDetail_0 19 rfl rfl)
theorem dX1_rejectionDetail_22 : decode cX1_rejectionDetail 22 = .ok (.ireturn, 1) := dk_172 (dk_at dksX1_rejectionDetail_0 22 rfl rfl)
def dkwX1_causeReason_1 : List UInt8 := [184, 0, 134, 42, 180, 0, 103, 182, 1, 128, 172]
abbrev dktX1_causeReason_1 : List UInt8 := dkwX1_causeReason_1 ++ []
def dkwX1_causeReason_0 : List UInt8 := [42, 180, 0, 103, 198, 0, 17, 42, 180, 0, 103, 182, 1, 128, 153, 0, 7, 4, 167, 0, 4, 3]
abbrev dktX1_causeReason_0 : List UInt8 := dkwX1_causeReason_0 ++ dktX1_causeReason_1
theorem dksX1_causeReason_0 : cX1_causeReason.data.toList.drop 0 = dktX1_causeReason_0 := by decide +kernel
theorem dksX1_causeReason_1 : cX1_causeReason.data.toList.drop 22 = dktX1_causeReason_1 := dk_seg dksX1_causeReason_0 22 rfl rfl
theorem dX1_causeReason_0 : decode cX1_causeReason 0 = .ok (.aload_n 0, 1) := dk_42 (dk_at dksX1_causeReason_0 0 rfl rfl)
theorem dX1_causeReason_1 : decode cX1_causeReason 1 = .ok (.getfield 103, 3) := dk_180 0 103 (dk_at dksX1_causeReason_0 1 rfl rfl)
theorem dX1_causeReason_4 : decode cX1_causeReason 4 = .ok (.ifnull 17, 3) := dk_198 0 17 (dk_at dksX1_causeReason_0 4 rfl rfl)
theorem dX1_causeReason_7 : decode cX1_causeReason 7 = .ok (.aload_n 0, 1) := dk_42 (dk_at dksX1_causeReason_0 7 rfl rfl)
theorem dX1_causeReason_8 : decode cX1_causeReason 8 = .ok (.getfield 103, 3) := dk_180 0 103 (dk_at dksX1_causeReason_0 8 rfl rfl)
theorem dX1_causeReason_11 : decode cX1_causeReason 11 = .ok (.invokevirtual 384, 3) := dk_182 1 128 (dk_at dksX1_causeReason_0 11 rfl rfl)
theorem dX1_causeReason_14 : decode cX1_causeReason 14 = .ok (.ifCond .eq 7, 3) := dk_153 0 7 (dk_at dksX1_causeReason_0 14 rfl rfl)
theorem dX1_causeReason_17 : decode cX1_causeReason 17 = .ok (.iconst 1, 1) := dk_4 (dk_at dksX1_causeReason_0 17 rfl rfl)
theorem dX1_causeReason_18 : decode cX1_causeReason 18 = .ok (.goto 4, 3) := dk_167 0 4 (dk_at dksX1_causeReason_0 18 rfl rfl)
theorem dX1_causeReason_21 : decode cX1_causeReason 21 = .ok (.iconst 0, 1) := dk_3 (dk_at dksX1_causeReason_0 21 rfl rfl)
theorem dX1_causeReason_22 : decode cX1_causeReason 22 = .ok (.invokestatic 134, 3) := dk_184 0 134 (dk_at dksX1_causeReason_1 0 rfl rfl)
theorem dX1_causeReason_25 : decode cX1_causeReason 25 = .ok (.aload_n 0, 1) := dk_42 (dk_at dksX1_causeReason_1 3 rfl rfl)
theorem dX1_causeReason_26 : decode cX1_causeReason 26 = .ok (.getfield 103, 3) := dk_180 0 103 (dk_at dksX1_causeReason_1 4 rfl rfl)
theorem dX1_causeReason_29 : decode cX1_causeReason 29 = .ok (.invokevirtual 384, 3) := dk_182 1 128 (dk_at dksX1_causeReason_1 7 rfl rfl)
theorem dX1_causeReason_32 : decode cX1_causeReason 32 = .ok (.ireturn, 1) := dk_172 (dk_at dksX1_causeReason_1 10 rfl rfl)
def dkwX1_undo_2 : List UInt8 := [172]
abbrev dktX1_undo_2 : List UInt8 := dkwX1_undo_2 ++ []
def dkwX1_undo_1 : List UInt8 := [180, 0, 74, 182, 0, 91, 4, 100, 182, 0, 95, 192, 0, 66, 181, 0, 69, 42, 180, 0, 74, 182, 0, 91]
abbrev dktX1_undo_1 : List UInt8 := dkwX1_undo_1 ++ dktX1_undo_2
def dkwX1_undo_0 : List UInt8 := [42, 180, 0, 74, 182, 0, 91, 158, 0, 7, 4, 167, 0, 4, 3, 184, 1, 93, 42, 42, 180, 0, 74, 42]
abbrev dktX1_undo_0 : List UInt8 := dkwX1_undo_0 ++ dktX1_undo_1
theorem dksX1_undo_0 : cX1_undo.data.toList.drop 0 = dktX1_undo_0 := by decide +kernel
theorem dksX1_undo_1 : cX1_undo.data.toList.drop 24 = dktX1_undo_1 := dk_seg dksX1_undo_0 24 rfl rfl
theorem dksX1_undo_2 : cX1_undo.data.toList.drop 48 = dktX1_undo_2 := dk_seg dksX1_undo_1 24 rfl rfl
theorem dX1_undo_0 : decode cX1_undo 0 = .ok (.aload_n 0, 1) := dk_42 (dk_at dksX1_undo_0 0 rfl rfl)
theorem dX1_undo_1 : decode cX1_undo 1 = .ok (.getfield 74, 3) := dk_180 0 74 (dk_at dksX1_undo_0 1 rfl rfl)
theorem dX1_undo_4 : decode cX1_undo 4 = .ok (.invokevirtual 91, 3) := dk_182 0 91 (dk_at dksX1_undo_0 4 rfl rfl)
theorem dX1_undo_7 : decode cX1_undo 7 = .ok (.ifCond .le 7, 3) := dk_158 0 7 (dk_at dksX1_undo_0 7 rfl rfl)
theorem dX1_undo_10 : decode cX1_undo 10 = .ok (.iconst 1, 1) := dk_4 (dk_at dksX1_undo_0 10 rfl rfl)
theorem dX1_undo_11 : decode cX1_undo 11 = .ok (.goto 4, 3) := dk_167 0 4 (dk_at dksX1_undo_0 11 rfl rfl)
theorem dX1_undo_14 : decode cX1_undo 14 = .ok (.iconst 0, 1) := dk_3 (dk_at dksX1_undo_0 14 rfl rfl)
theorem dX1_undo_15 : decode cX1_undo 15 = .ok (.invokestatic 349, 3) := dk_184 1 93 (dk_at dksX1_undo_0 15 rfl rfl)
theorem dX1_undo_18 : decode cX1_undo 18 = .ok (.aload_n 0, 1) := dk_42 (dk_at dksX1_undo_0 18 rfl rfl)
theorem dX1_undo_19 : decode cX1_undo 19 = .ok (.aload_n 0, 1) := dk_42 (dk_at dksX1_undo_0 19 rfl rfl)
theorem dX1_undo_20 : decode cX1_undo 20 = .ok (.getfield 74, 3) := dk_180 0 74 (dk_at dksX1_undo_0 20 rfl rfl)
theorem dX1_undo_23 : decode cX1_undo 23 = .ok (.aload_n 0, 1) := dk_42 (dk_at dksX1_undo_0 23 rfl rfl)
theorem dX1_undo_24 : decode cX1_undo 24 = .ok (.getfield 74, 3) := dk_180 0 74 (dk_at dksX1_undo_1 0 rfl rfl)
theorem dX1_undo_27 : decode cX1_undo 27 = .ok (.invokevirtual 91, 3) := dk_182 0 91 (dk_at dksX1_undo_1 3 rfl rfl)
theorem dX1_undo_30 : decode cX1_undo 30 = .ok (.iconst 1, 1) := dk_4 (dk_at dksX1_undo_1 6 rfl rfl)
theorem dX1_undo_31 : decode cX1_undo 31 = .ok (.isub, 1) := dk_100 (dk_at dksX1_undo_1 7 rfl rfl)
theorem dX1_undo_32 : decode cX1_undo 32 = .ok (.invokevirtual 95, 3) := dk_182 0 95 (dk_at dksX1_undo_1 8 rfl rfl)
theorem dX1_undo_35 : decode cX1_undo 35 = .ok (.checkcast 66, 3) := dk_192 0 66 (dk_at dksX1_undo_1 11 rfl rfl)
theorem dX1_undo_38 : decode cX1_undo 38 = .ok (.putfield 69, 3) := dk_181 0 69 (dk_at dksX1_undo_1 14 rfl rfl)
theorem dX1_undo_41 : decode cX1_undo 41 = .ok (.aload_n 0, 1) := dk_42 (dk_at dksX1_undo_1 17 rfl rfl)
theorem dX1_undo_42 : decode cX1_undo 42 = .ok (.getfield 74, 3) := dk_180 0 74 (dk_at dksX1_undo_1 18 rfl rfl)
theorem dX1_undo_45 : decode cX1_undo 45 = .ok (.invokevirtual 91, 3) := dk_182 0 91 (dk_at dksX1_undo_1 21 rfl rfl)
theorem dX1_undo_48 : decode cX1_undo 48 = .ok (.ireturn, 1) := dk_172 (dk_at dksX1_undo_2 0 rfl rfl)
def dkwX1_restoreSnapshot_1 : List UInt8 := [181, 0, 69, 42, 180, 0, 74, 182, 1, 134, 42, 180, 0, 69, 180, 0, 118, 182, 0, 91, 172]
abbrev dktX1_restoreSnapshot_1 : List UInt8 := dkwX1_restoreSnapshot_1 ++ []
def dkwX1_restoreSnapshot_0 : List UInt8 := [42, 180, 1, 131, 198, 0, 7, 4, 167, 0, 4, 3, 184, 1, 93, 42, 42, 180, 1, 131, 182, 0, 141]
abbrev dktX1_restoreSnapshot_0 : List UInt8 := dkwX1_restoreSnapshot_0 ++ dktX1_restoreSnapshot_1
theorem dksX1_restoreSnapshot_0 : cX1_restoreSnapshot.data.toList.drop 0 = dktX1_restoreSnapshot_0 := by decide +kernel
theorem dksX1_restoreSnapshot_1 : cX1_restoreSnapshot.data.toList.drop 23 = dktX1_restoreSnapshot_1 := dk_seg dksX1_restoreSnapshot_0 23 rfl rfl
theorem dX1_restoreSnapshot_0 : decode cX1_restoreSnapshot 0 = .ok (.aload_n 0, 1) := dk_42 (dk_at dksX1_restoreSnapshot_0 0 rfl rfl)
theorem dX1_restoreSnapshot_1 : decode cX1_restoreSnapshot 1 = .ok (.getfield 387, 3) := dk_180 1 131 (dk_at dksX1_restoreSnapshot_0 1 rfl rfl)
theorem dX1_restoreSnapshot_4 : decode cX1_restoreSnapshot 4 = .ok (.ifnull 7, 3) := dk_198 0 7 (dk_at dksX1_restoreSnapshot_0 4 rfl rfl)
theorem dX1_restoreSnapshot_7 : decode cX1_restoreSnapshot 7 = .ok (.iconst 1, 1) := dk_4 (dk_at dksX1_restoreSnapshot_0 7 rfl rfl)
theorem dX1_restoreSnapshot_8 : decode cX1_restoreSnapshot 8 = .ok (.goto 4, 3) := dk_167 0 4 (dk_at dksX1_restoreSnapshot_0 8 rfl rfl)
theorem dX1_restoreSnapshot_11 : decode cX1_restoreSnapshot 11 = .ok (.iconst 0, 1) := dk_3 (dk_at dksX1_restoreSnapshot_0 11 rfl rfl)
theorem dX1_restoreSnapshot_12 : decode cX1_restoreSnapshot 12 = .ok (.invokestatic 349, 3) := dk_184 1 93 (dk_at dksX1_restoreSnapshot_0 12 rfl rfl)
theorem dX1_restoreSnapshot_15 : decode cX1_restoreSnapshot 15 = .ok (.aload_n 0, 1) := dk_42 (dk_at dksX1_restoreSnapshot_0 15 rfl rfl)
theorem dX1_restoreSnapshot_16 : decode cX1_restoreSnapshot 16 = .ok (.aload_n 0, 1) := dk_42 (dk_at dksX1_restoreSnapshot_0 16 rfl rfl)
theorem dX1_restoreSnapshot_17 : decode cX1_restoreSnapshot 17 = .ok (.getfield 387, 3) := dk_180 1 131 (dk_at dksX1_restoreSnapshot_0 17 rfl rfl)
theorem dX1_restoreSnapshot_20 : decode cX1_restoreSnapshot 20 = .ok (.invokevirtual 141, 3) := dk_182 0 141 (dk_at dksX1_restoreSnapshot_0 20 rfl rfl)
theorem dX1_restoreSnapshot_23 : decode cX1_restoreSnapshot 23 = .ok (.putfield 69, 3) := dk_181 0 69 (dk_at dksX1_restoreSnapshot_1 0 rfl rfl)
theorem dX1_restoreSnapshot_26 : decode cX1_restoreSnapshot 26 = .ok (.aload_n 0, 1) := dk_42 (dk_at dksX1_restoreSnapshot_1 3 rfl rfl)
theorem dX1_restoreSnapshot_27 : decode cX1_restoreSnapshot 27 = .ok (.getfield 74, 3) := dk_180 0 74 (dk_at dksX1_restoreSnapshot_1 4 rfl rfl)
theorem dX1_restoreSnapshot_30 : decode cX1_restoreSnapshot 30 = .ok (.invokevirtual 390, 3) := dk_182 1 134 (dk_at dksX1_restoreSnapshot_1 7 rfl rfl)
theorem dX1_restoreSnapshot_33 : decode cX1_restoreSnapshot 33 = .ok (.aload_n 0, 1) := dk_42 (dk_at dksX1_restoreSnapshot_1 10 rfl rfl)
theorem dX1_restoreSnapshot_34 : decode cX1_restoreSnapshot 34 = .ok (.getfield 69, 3) := dk_180 0 69 (dk_at dksX1_restoreSnapshot_1 11 rfl rfl)
theorem dX1_restoreSnapshot_37 : decode cX1_restoreSnapshot 37 = .ok (.getfield 118, 3) := dk_180 0 118 (dk_at dksX1_restoreSnapshot_1 14 rfl rfl)
theorem dX1_restoreSnapshot_40 : decode cX1_restoreSnapshot 40 = .ok (.invokevirtual 91, 3) := dk_182 0 91 (dk_at dksX1_restoreSnapshot_1 17 rfl rfl)
theorem dX1_restoreSnapshot_43 : decode cX1_restoreSnapshot 43 = .ok (.ireturn, 1) := dk_172 (dk_at dksX1_restoreSnapshot_1 20 rfl rfl)
def dkwX10_init_0 : List UInt8 := [42, 183, 0, 3, 42, 187, 0, 9, 89, 183, 0, 11, 181, 0, 12, 42, 43, 181, 0, 18, 177]
abbrev dktX10_init_0 : List UInt8 := dkwX10_init_0 ++ []
theorem dksX10_init_0 : cX10_init.data.toList.drop 0 = dktX10_init_0 := by decide +kernel
theorem dX10_init_0 : decode cX10_init 0 = .ok (.aload_n 0, 1) := dk_42 (dk_at dksX10_init_0 0 rfl rfl)
theorem dX10_init_1 : decode cX10_init 1 = .ok (.invokespecial 3, 3) := dk_183 0 3 (dk_at dksX10_init_0 1 rfl rfl)
theorem dX10_init_4 : decode cX10_init 4 = .ok (.aload_n 0, 1) := dk_42 (dk_at dksX10_init_0 4 rfl rfl)
theorem dX10_init_5 : decode cX10_init 5 = .ok (.new 9, 3) := dk_187 0 9 (dk_at dksX10_init_0 5 rfl rfl)
theorem dX10_init_8 : decode cX10_init 8 = .ok (.dup, 1) := dk_89 (dk_at dksX10_init_0 8 rfl rfl)
theorem dX10_init_9 : decode cX10_init 9 = .ok (.invokespecial 11, 3) := dk_183 0 11 (dk_at dksX10_init_0 9 rfl rfl)
theorem dX10_init_12 : decode cX10_init 12 = .ok (.putfield 12, 3) := dk_181 0 12 (dk_at dksX10_init_0 12 rfl rfl)
theorem dX10_init_15 : decode cX10_init 15 = .ok (.aload_n 0, 1) := dk_42 (dk_at dksX10_init_0 15 rfl rfl)
theorem dX10_init_16 : decode cX10_init 16 = .ok (.aload_n 1, 1) := dk_43 (dk_at dksX10_init_0 16 rfl rfl)
theorem dX10_init_17 : decode cX10_init 17 = .ok (.putfield 18, 3) := dk_181 0 18 (dk_at dksX10_init_0 17 rfl rfl)
theorem dX10_init_20 : decode cX10_init 20 = .ok (.return_, 1) := dk_177 (dk_at dksX10_init_0 20 rfl rfl)
def dkwX10_parse_2 : List UInt8 := [42, 180, 0, 12, 176]
abbrev dktX10_parse_2 : List UInt8 := dkwX10_parse_2 ++ []
def dkwX10_parse_1 : List UInt8 := [162, 0, 24, 42, 16, 59, 182, 0, 74, 42, 180, 0, 12, 42, 182, 0, 78, 182, 0, 82, 87, 167, 255, 224]
abbrev dktX10_parse_1 : List UInt8 := dkwX10_parse_1 ++ dktX10_parse_2
def dkwX10_parse_0 : List UInt8 := [42, 180, 0, 12, 42, 182, 0, 78, 182, 0, 82, 87, 42, 180, 0, 22, 42, 180, 0, 18, 182, 0, 26]
abbrev dktX10_parse_0 : List UInt8 := dkwX10_parse_0 ++ dktX10_parse_1
theorem dksX10_parse_0 : cX10_parse.data.toList.drop 0 = dktX10_parse_0 := by decide +kernel
theorem dksX10_parse_1 : cX10_parse.data.toList.drop 23 = dktX10_parse_1 := dk_seg dksX10_parse_0 23 rfl rfl
theorem dksX10_parse_2 : cX10_parse.data.toList.drop 47 = dktX10_parse_2 := dk_seg dksX10_parse_1 24 rfl rfl
theorem dX10_parse_0 : decode cX10_parse 0 = .ok (.aload_n 0, 1) := dk_42 (dk_at dksX10_parse_0 0 rfl rfl)
theorem dX10_parse_1 : decode cX10_parse 1 = .ok (.getfield 12, 3) := dk_180 0 12 (dk_at dksX10_parse_0 1 rfl rfl)
theorem dX10_parse_4 : decode cX10_parse 4 = .ok (.aload_n 0, 1) := dk_42 (dk_at dksX10_parse_0 4 rfl rfl)
theorem dX10_parse_5 : decode cX10_parse 5 = .ok (.invokevirtual 78, 3) := dk_182 0 78 (dk_at dksX10_parse_0 5 rfl rfl)
theorem dX10_parse_8 : decode cX10_parse 8 = .ok (.invokevirtual 82, 3) := dk_182 0 82 (dk_at dksX10_parse_0 8 rfl rfl)
theorem dX10_parse_11 : decode cX10_parse 11 = .ok (.pop, 1) := dk_87 (dk_at dksX10_parse_0 11 rfl rfl)
theorem dX10_parse_12 : decode cX10_parse 12 = .ok (.aload_n 0, 1) := dk_42 (dk_at dksX10_parse_0 12 rfl rfl)
theorem dX10_parse_13 : decode cX10_parse 13 = .ok (.getfield 22, 3) := dk_180 0 22 (dk_at dksX10_parse_0 13 rfl rfl)
theorem dX10_parse_16 : decode cX10_parse 16 = .ok (.aload_n 0, 1) := dk_42 (dk_at dksX10_parse_0 16 rfl rfl)
theorem dX10_parse_17 : decode cX10_parse 17 = .ok (.getfield 18, 3) := dk_180 0 18 (dk_at dksX10_parse_0 17 rfl rfl)
theorem dX10_parse_20 : decode cX10_parse 20 = .ok (.invokevirtual 26, 3) := dk_182 0 26 (dk_at dksX10_parse_0 20 rfl rfl)
theorem dX10_parse_23 : decode cX10_parse 23 = .ok (.if_icmp .ge 24, 3) := dk_162 0 24 (dk_at dksX10_parse_1 0 rfl rfl)
theorem dX10_parse_26 : decode cX10_parse 26 = .ok (.aload_n 0, 1) := dk_42 (dk_at dksX10_parse_1 3 rfl rfl)
theorem dX10_parse_27 : decode cX10_parse 27 = .ok (.bipush 59, 2) := dk_16 59 (dk_at dksX10_parse_1 4 rfl rfl)
theorem dX10_parse_29 : decode cX10_parse 29 = .ok (.invokevirtual 74, 3) := dk_182 0 74 (dk_at dksX10_parse_1 6 rfl rfl)
theorem dX10_parse_32 : decode cX10_parse 32 = .ok (.aload_n 0, 1) := dk_42 (dk_at dksX10_parse_1 9 rfl rfl)
theorem dX10_parse_33 : decode cX10_parse 33 = .ok (.getfield 12, 3) := dk_180 0 12 (dk_at dksX10_parse_1 10 rfl rfl)
theorem dX10_parse_36 : decode cX10_parse 36 = .ok (.aload_n 0, 1) := dk_42 (dk_at dksX10_parse_1 13 rfl rfl)
theorem dX10_parse_37 : decode cX10_parse 37 = .ok (.invokevirtual 78, 3) := dk_182 0 78 (dk_at dksX10_parse_1 14 rfl rfl)
theorem dX10_parse_40 : decode cX10_parse 40 = .ok (.invokevirtual 82, 3) := dk_182 0 82 (dk_at dksX10_parse_1 17 rfl rfl)
theorem dX10_parse_43 : decode cX10_parse 43 = .ok (.pop, 1) := dk_87 (dk_at dksX10_parse_1 20 rfl rfl)
theorem dX10_parse_44 : decode cX10_parse 44 = .ok (.goto (-32), 3) := dk_167 255 224 (dk_at dksX10_parse_1 21 rfl rfl)
theorem dX10_parse_47 : decode cX10_parse 47 = .ok (.aload_n 0, 1) := dk_42 (dk_at dksX10_parse_2 0 rfl rfl)
theorem dX10_parse_48 : decode cX10_parse 48 = .ok (.getfield 12, 3) := dk_180 0 12 (dk_at dksX10_parse_2 1 rfl rfl)
theorem dX10_parse_51 : decode cX10_parse 51 = .ok (.areturn, 1) := dk_176 (dk_at dksX10_parse_2 4 rfl rfl)
def dkwX10_command_5 : List UInt8 := [182, 0, 55, 2, 27, 183, 0, 66, 176, 187, 0, 64, 89, 27, 42, 182, 0, 69, 2, 27, 183, 0, 66, 176]
abbrev dktX10_command_5 : List UInt8 := dkwX10_command_5 ++ []
def dkwX10_command_4 : List UInt8 := [182, 0, 74, 187, 0, 64, 89, 27, 28, 42, 182, 0, 69, 27, 183, 0, 66, 176, 187, 0, 64, 89, 27, 42]
abbrev dktX10_command_4 : List UInt8 := dkwX10_command_4 ++ dktX10_command_5
def dkwX10_command_3 : List UInt8 := [187, 0, 64, 89, 27, 28, 42, 182, 0, 55, 29, 183, 0, 66, 176, 42, 182, 0, 69, 61, 42, 16, 62]
abbrev dktX10_command_3 : List UInt8 := dkwX10_command_3 ++ dktX10_command_4
def dkwX10_command_2 : List UInt8 := [187, 0, 64, 89, 27, 2, 2, 27, 183, 0, 66, 176, 42, 182, 0, 69, 61, 42, 18, 72, 182, 0, 51, 62]
abbrev dktX10_command_2 : List UInt8 := dkwX10_command_2 ++ dktX10_command_3
def dkwX10_command_1 : List UInt8 := [171, 0, 0, 0, 0, 0, 0, 124, 0, 0, 0, 4, 0, 0, 0, 97, 0, 0, 0, 56, 0, 0, 0, 102, 0, 0, 0, 44, 0, 0, 0, 103, 0, 0, 0, 83, 0, 0, 0, 121, 0, 0, 0, 109]
abbrev dktX10_command_1 : List UInt8 := dkwX10_command_1 ++ dktX10_command_2
def dkwX10_command_0 : List UInt8 := [42, 18, 62, 182, 0, 51, 60, 27]
abbrev dktX10_command_0 : List UInt8 := dkwX10_command_0 ++ dktX10_command_1
theorem dksX10_command_0 : cX10_command.data.toList.drop 0 = dktX10_command_0 := by decide +kernel
theorem dksX10_command_1 : cX10_command.data.toList.drop 8 = dktX10_command_1 := dk_seg dksX10_command_0 8 rfl rfl
theorem dksX10_command_2 : cX10_command.data.toList.drop 52 = dktX10_command_2 := dk_seg dksX10_command_1 44 rfl rfl
theorem dksX10_command_3 : cX10_command.data.toList.drop 76 = dktX10_command_3 := dk_seg dksX10_command_2 24 rfl rfl
theorem dksX10_command_4 : cX10_command.data.toList.drop 99 = dktX10_command_4 := dk_seg dksX10_command_3 23 rfl rfl
theorem dksX10_command_5 : cX10_command.data.toList.drop 123 = dktX10_command_5 := dk_seg dksX10_command_4 24 rfl rfl
theorem dX10_command_0 : decode cX10_command 0 = .ok (.aload_n 0, 1) := dk_42 (dk_at dksX10_command_0 0 rfl rfl)
theorem dX10_command_1 : decode cX10_command 1 = .ok (.ldc 62, 2) := dk_18 62 (dk_at dksX10_command_0 1 rfl rfl)
theorem dX10_command_3 : decode cX10_command 3 = .ok (.invokevirtual 51, 3) := dk_182 0 51 (dk_at dksX10_command_0 3 rfl rfl)
theorem dX10_command_6 : decode cX10_command 6 = .ok (.istore_n 1, 1) := dk_60 (dk_at dksX10_command_0 6 rfl rfl)
theorem dX10_command_7 : decode cX10_command 7 = .ok (.iload_n 1, 1) := dk_27 (dk_at dksX10_command_0 7 rfl rfl)
theorem dX10_command_8 : decode cX10_command 8 = .ok (.lookupswitch 124 #[(97, 56), (102, 44), (103, 83), (121, 109)], 44) := by decide +kernel
theorem dX10_command_52 : decode cX10_command 52 = .ok (.new 64, 3) := dk_187 0 64 (dk_at dksX10_command_2 0 rfl rfl)
theorem dX10_command_55 : decode cX10_command 55 = .ok (.dup, 1) := dk_89 (dk_at dksX10_command_2 3 rfl rfl)
theorem dX10_command_56 : decode cX10_command 56 = .ok (.iload_n 1, 1) := dk_27 (dk_at dksX10_command_2 4 rfl rfl)
theorem dX10_command_57 : decode cX10_command 57 = .ok (.iconst (-1), 1) := dk_2 (dk_at dksX10_command_2 5 rfl rfl)
theorem dX10_command_58 : decode cX10_command 58 = .ok (.iconst (-1), 1) := dk_2 (dk_at dksX10_command_2 6 rfl rfl)
theorem dX10_command_59 : decode cX10_command 59 = .ok (.iload_n 1, 1) := dk_27 (dk_at dksX10_command_2 7 rfl rfl)
theorem dX10_command_60 : decode cX10_command 60 = .ok (.invokespecial 66, 3) := dk_183 0 66 (dk_at dksX10_command_2 8 rfl rfl)
theorem dX10_command_63 : decode cX10_command 63 = .ok (.areturn, 1) := dk_176 (dk_at dksX10_command_2 11 rfl rfl)
theorem dX10_command_64 : decode cX10_command 64 = .ok (.aload_n 0, 1) := dk_42 (dk_at dksX10_command_2 12 rfl rfl)
theorem dX10_command_65 : decode cX10_command 65 = .ok (.invokevirtual 69, 3) := dk_182 0 69 (dk_at dksX10_command_2 13 rfl rfl)
theorem dX10_command_68 : decode cX10_command 68 = .ok (.istore_n 2, 1) := dk_61 (dk_at dksX10_command_2 16 rfl rfl)
theorem dX10_command_69 : decode cX10_command 69 = .ok (.aload_n 0, 1) := dk_42 (dk_at dksX10_command_2 17 rfl rfl)
theorem dX10_command_70 : decode cX10_command 70 = .ok (.ldc 72, 2) := dk_18 72 (dk_at dksX10_command_2 18 rfl rfl)
theorem dX10_command_72 : decode cX10_command 72 = .ok (.invokevirtual 51, 3) := dk_182 0 51 (dk_at dksX10_command_2 20 rfl rfl)
theorem dX10_command_75 : decode cX10_command 75 = .ok (.istore_n 3, 1) := dk_62 (dk_at dksX10_command_2 23 rfl rfl)
theorem dX10_command_76 : decode cX10_command 76 = .ok (.new 64, 3) := dk_187 0 64 (dk_at dksX10_command_3 0 rfl rfl)
theorem dX10_command_79 : decode cX10_command 79 = .ok (.dup, 1) := dk_89 (dk_at dksX10_command_3 3 rfl rfl)
theorem dX10_command_80 : decode cX10_command 80 = .ok (.iload_n 1, 1) := dk_27 (dk_at dksX10_command_3 4 rfl rfl)
theorem dX10_command_81 : decode cX10_command 81 = .ok (.iload_n 2, 1) := dk_28 (dk_at dksX10_command_3 5 rfl rfl)
theorem dX10_command_82 : decode cX10_command 82 = .ok (.aload_n 0, 1) := dk_42 (dk_at dksX10_command_3 6 rfl rfl)
theorem dX10_command_83 : decode cX10_command 83 = .ok (.invokevirtual 55, 3) := dk_182 0 55 (dk_at dksX10_command_3 7 rfl rfl)
theorem dX10_command_86 : decode cX10_command 86 = .ok (.iload_n 3, 1) := dk_29 (dk_at dksX10_command_3 10 rfl rfl)
theorem dX10_command_87 : decode cX10_command 87 = .ok (.invokespecial 66, 3) := dk_183 0 66 (dk_at dksX10_command_3 11 rfl rfl)
theorem dX10_command_90 : decode cX10_command 90 = .ok (.areturn, 1) := dk_176 (dk_at dksX10_command_3 14 rfl rfl)
theorem dX10_command_91 : decode cX10_command 91 = .ok (.aload_n 0, 1) := dk_42 (dk_at dksX10_command_3 15 rfl rfl)
theorem dX10_command_92 : decode cX10_command 92 = .ok (.invokevirtual 69, 3) := dk_182 0 69 (dk_at dksX10_command_3 16 rfl rfl)
theorem dX10_command_95 : decode cX10_command 95 = .ok (.istore_n 2, 1) := dk_61 (dk_at dksX10_command_3 19 rfl rfl)
theorem dX10_command_96 : decode cX10_command 96 = .ok (.aload_n 0, 1) := dk_42 (dk_at dksX10_command_3 20 rfl rfl)
theorem dX10_command_97 : decode cX10_command 97 = .ok (.bipush 62, 2) := dk_16 62 (dk_at dksX10_command_3 21 rfl rfl)
theorem dX10_command_99 : decode cX10_command 99 = .ok (.invokevirtual 74, 3) := dk_182 0 74 (dk_at dksX10_command_4 0 rfl rfl)
theorem dX10_command_102 : decode cX10_command 102 = .ok (.new 64, 3) := dk_187 0 64 (dk_at dksX10_command_4 3 rfl rfl)
theorem dX10_command_105 : decode cX10_command 105 = .ok (.dup, 1) := dk_89 (dk_at dksX10_command_4 6 rfl rfl)
theorem dX10_command_106 : decode cX10_command 106 = .ok (.iload_n 1, 1) := dk_27 (dk_at dksX10_command_4 7 rfl rfl)
theorem dX10_command_107 : decode cX10_command 107 = .ok (.iload_n 2, 1) := dk_28 (dk_at dksX10_command_4 8 rfl rfl)
theorem dX10_command_108 : decode cX10_command 108 = .ok (.aload_n 0, 1) := dk_42 (dk_at dksX10_command_4 9 rfl rfl)
theorem dX10_command_109 : decode cX10_command 109 = .ok (.invokevirtual 69, 3) := dk_182 0 69 (dk_at dksX10_command_4 10 rfl rfl)
theorem dX10_command_112 : decode cX10_command 112 = .ok (.iload_n 1, 1) := dk_27 (dk_at dksX10_command_4 13 rfl rfl)
theorem dX10_command_113 : decode cX10_command 113 = .ok (.invokespecial 66, 3) := dk_183 0 66 (dk_at dksX10_command_4 14 rfl rfl)
theorem dX10_command_116 : decode cX10_command 116 = .ok (.areturn, 1) := dk_176 (dk_at dksX10_command_4 17 rfl rfl)
theorem dX10_command_117 : decode cX10_command 117 = .ok (.new 64, 3) := dk_187 0 64 (dk_at dksX10_command_4 18 rfl rfl)
theorem dX10_command_120 : decode cX10_command 120 = .ok (.dup, 1) := dk_89 (dk_at dksX10_command_4 21 rfl rfl)
theorem dX10_command_121 : decode cX10_command 121 = .ok (.iload_n 1, 1) := dk_27 (dk_at dksX10_command_4 22 rfl rfl)
theorem dX10_command_122 : decode cX10_command 122 = .ok (.aload_n 0, 1) := dk_42 (dk_at dksX10_command_4 23 rfl rfl)
theorem dX10_command_123 : decode cX10_command 123 = .ok (.invokevirtual 55, 3) := dk_182 0 55 (dk_at dksX10_command_5 0 rfl rfl)
theorem dX10_command_126 : decode cX10_command 126 = .ok (.iconst (-1), 1) := dk_2 (dk_at dksX10_command_5 3 rfl rfl)
theorem dX10_command_127 : decode cX10_command 127 = .ok (.iload_n 1, 1) := dk_27 (dk_at dksX10_command_5 4 rfl rfl)
theorem dX10_command_128 : decode cX10_command 128 = .ok (.invokespecial 66, 3) := dk_183 0 66 (dk_at dksX10_command_5 5 rfl rfl)
theorem dX10_command_131 : decode cX10_command 131 = .ok (.areturn, 1) := dk_176 (dk_at dksX10_command_5 8 rfl rfl)
theorem dX10_command_132 : decode cX10_command 132 = .ok (.new 64, 3) := dk_187 0 64 (dk_at dksX10_command_5 9 rfl rfl)
theorem dX10_command_135 : decode cX10_command 135 = .ok (.dup, 1) := dk_89 (dk_at dksX10_command_5 12 rfl rfl)
theorem dX10_command_136 : decode cX10_command 136 = .ok (.iload_n 1, 1) := dk_27 (dk_at dksX10_command_5 13 rfl rfl)
theorem dX10_command_137 : decode cX10_command 137 = .ok (.aload_n 0, 1) := dk_42 (dk_at dksX10_command_5 14 rfl rfl)
theorem dX10_command_138 : decode cX10_command 138 = .ok (.invokevirtual 69, 3) := dk_182 0 69 (dk_at dksX10_command_5 15 rfl rfl)
theorem dX10_command_141 : decode cX10_command 141 = .ok (.iconst (-1), 1) := dk_2 (dk_at dksX10_command_5 18 rfl rfl)
theorem dX10_command_142 : decode cX10_command 142 = .ok (.iload_n 1, 1) := dk_27 (dk_at dksX10_command_5 19 rfl rfl)
theorem dX10_command_143 : decode cX10_command 143 = .ok (.invokespecial 66, 3) := dk_183 0 66 (dk_at dksX10_command_5 20 rfl rfl)
theorem dX10_command_146 : decode cX10_command 146 = .ok (.areturn, 1) := dk_176 (dk_at dksX10_command_5 23 rfl rfl)
def dkwX10_letter_2 : List UInt8 := [181, 0, 22, 28, 172]
abbrev dktX10_letter_2 : List UInt8 := dkwX10_letter_2 ++ []
def dkwX10_letter_1 : List UInt8 := [156, 0, 15, 187, 0, 40, 89, 42, 180, 0, 22, 183, 0, 42, 191, 42, 89, 180, 0, 22, 4, 96]
abbrev dktX10_letter_1 : List UInt8 := dkwX10_letter_1 ++ dktX10_letter_2
def dkwX10_letter_0 : List UInt8 := [42, 182, 0, 36, 61, 42, 180, 0, 22, 42, 180, 0, 18, 182, 0, 26, 159, 0, 11, 43, 28, 182, 0, 45]
abbrev dktX10_letter_0 : List UInt8 := dkwX10_letter_0 ++ dktX10_letter_1
theorem dksX10_letter_0 : cX10_letter.data.toList.drop 0 = dktX10_letter_0 := by decide +kernel
theorem dksX10_letter_1 : cX10_letter.data.toList.drop 24 = dktX10_letter_1 := dk_seg dksX10_letter_0 24 rfl rfl
theorem dksX10_letter_2 : cX10_letter.data.toList.drop 46 = dktX10_letter_2 := dk_seg dksX10_letter_1 22 rfl rfl
theorem dX10_letter_0 : decode cX10_letter 0 = .ok (.aload_n 0, 1) := dk_42 (dk_at dksX10_letter_0 0 rfl rfl)
theorem dX10_letter_1 : decode cX10_letter 1 = .ok (.invokevirtual 36, 3) := dk_182 0 36 (dk_at dksX10_letter_0 1 rfl rfl)
theorem dX10_letter_4 : decode cX10_letter 4 = .ok (.istore_n 2, 1) := dk_61 (dk_at dksX10_letter_0 4 rfl rfl)
theorem dX10_letter_5 : decode cX10_letter 5 = .ok (.aload_n 0, 1) := dk_42 (dk_at dksX10_letter_0 5 rfl rfl)
theorem dX10_letter_6 : decode cX10_letter 6 = .ok (.getfield 22, 3) := dk_180 0 22 (dk_at dksX10_letter_0 6 rfl rfl)
theorem dX10_letter_9 : decode cX10_letter 9 = .ok (.aload_n 0, 1) := dk_42 (dk_at dksX10_letter_0 9 rfl rfl)
theorem dX10_letter_10 : decode cX10_letter 10 = .ok (.getfield 18, 3) := dk_180 0 18 (dk_at dksX10_letter_0 10 rfl rfl)
theorem dX10_letter_13 : decode cX10_letter 13 = .ok (.invokevirtual 26, 3) := dk_182 0 26 (dk_at dksX10_letter_0 13 rfl rfl)
theorem dX10_letter_16 : decode cX10_letter 16 = .ok (.if_icmp .eq 11, 3) := dk_159 0 11 (dk_at dksX10_letter_0 16 rfl rfl)
theorem dX10_letter_19 : decode cX10_letter 19 = .ok (.aload_n 1, 1) := dk_43 (dk_at dksX10_letter_0 19 rfl rfl)
theorem dX10_letter_20 : decode cX10_letter 20 = .ok (.iload_n 2, 1) := dk_28 (dk_at dksX10_letter_0 20 rfl rfl)
theorem dX10_letter_21 : decode cX10_letter 21 = .ok (.invokevirtual 45, 3) := dk_182 0 45 (dk_at dksX10_letter_0 21 rfl rfl)
theorem dX10_letter_24 : decode cX10_letter 24 = .ok (.ifCond .ge 15, 3) := dk_156 0 15 (dk_at dksX10_letter_1 0 rfl rfl)
theorem dX10_letter_27 : decode cX10_letter 27 = .ok (.new 40, 3) := dk_187 0 40 (dk_at dksX10_letter_1 3 rfl rfl)
theorem dX10_letter_30 : decode cX10_letter 30 = .ok (.dup, 1) := dk_89 (dk_at dksX10_letter_1 6 rfl rfl)
theorem dX10_letter_31 : decode cX10_letter 31 = .ok (.aload_n 0, 1) := dk_42 (dk_at dksX10_letter_1 7 rfl rfl)
theorem dX10_letter_32 : decode cX10_letter 32 = .ok (.getfield 22, 3) := dk_180 0 22 (dk_at dksX10_letter_1 8 rfl rfl)
theorem dX10_letter_35 : decode cX10_letter 35 = .ok (.invokespecial 42, 3) := dk_183 0 42 (dk_at dksX10_letter_1 11 rfl rfl)
theorem dX10_letter_38 : decode cX10_letter 38 = .ok (.athrow, 1) := dk_191 (dk_at dksX10_letter_1 14 rfl rfl)
theorem dX10_letter_39 : decode cX10_letter 39 = .ok (.aload_n 0, 1) := dk_42 (dk_at dksX10_letter_1 15 rfl rfl)
theorem dX10_letter_40 : decode cX10_letter 40 = .ok (.dup, 1) := dk_89 (dk_at dksX10_letter_1 16 rfl rfl)
theorem dX10_letter_41 : decode cX10_letter 41 = .ok (.getfield 22, 3) := dk_180 0 22 (dk_at dksX10_letter_1 17 rfl rfl)
theorem dX10_letter_44 : decode cX10_letter 44 = .ok (.iconst 1, 1) := dk_4 (dk_at dksX10_letter_1 20 rfl rfl)
theorem dX10_letter_45 : decode cX10_letter 45 = .ok (.iadd, 1) := dk_96 (dk_at dksX10_letter_1 21 rfl rfl)
theorem dX10_letter_46 : decode cX10_letter 46 = .ok (.putfield 22, 3) := dk_181 0 22 (dk_at dksX10_letter_2 0 rfl rfl)
theorem dX10_letter_49 : decode cX10_letter 49 = .ok (.iload_n 2, 1) := dk_28 (dk_at dksX10_letter_2 3 rfl rfl)
theorem dX10_letter_50 : decode cX10_letter 50 = .ok (.ireturn, 1) := dk_172 (dk_at dksX10_letter_2 4 rfl rfl)
def dkwX10_current_1 : List UInt8 := [182, 0, 32, 167, 0, 4, 3, 172]
abbrev dktX10_current_1 : List UInt8 := dkwX10_current_1 ++ []
def dkwX10_current_0 : List UInt8 := [42, 180, 0, 22, 42, 180, 0, 18, 182, 0, 26, 162, 0, 17, 42, 180, 0, 18, 42, 180, 0, 22]
abbrev dktX10_current_0 : List UInt8 := dkwX10_current_0 ++ dktX10_current_1
theorem dksX10_current_0 : cX10_current.data.toList.drop 0 = dktX10_current_0 := by decide +kernel
theorem dksX10_current_1 : cX10_current.data.toList.drop 22 = dktX10_current_1 := dk_seg dksX10_current_0 22 rfl rfl
theorem dX10_current_0 : decode cX10_current 0 = .ok (.aload_n 0, 1) := dk_42 (dk_at dksX10_current_0 0 rfl rfl)
theorem dX10_current_1 : decode cX10_current 1 = .ok (.getfield 22, 3) := dk_180 0 22 (dk_at dksX10_current_0 1 rfl rfl)
theorem dX10_current_4 : decode cX10_current 4 = .ok (.aload_n 0, 1) := dk_42 (dk_at dksX10_current_0 4 rfl rfl)
theorem dX10_current_5 : decode cX10_current 5 = .ok (.getfield 18, 3) := dk_180 0 18 (dk_at dksX10_current_0 5 rfl rfl)
theorem dX10_current_8 : decode cX10_current 8 = .ok (.invokevirtual 26, 3) := dk_182 0 26 (dk_at dksX10_current_0 8 rfl rfl)
theorem dX10_current_11 : decode cX10_current 11 = .ok (.if_icmp .ge 17, 3) := dk_162 0 17 (dk_at dksX10_current_0 11 rfl rfl)
theorem dX10_current_14 : decode cX10_current 14 = .ok (.aload_n 0, 1) := dk_42 (dk_at dksX10_current_0 14 rfl rfl)
theorem dX10_current_15 : decode cX10_current 15 = .ok (.getfield 18, 3) := dk_180 0 18 (dk_at dksX10_current_0 15 rfl rfl)
theorem dX10_current_18 : decode cX10_current 18 = .ok (.aload_n 0, 1) := dk_42 (dk_at dksX10_current_0 18 rfl rfl)
theorem dX10_current_19 : decode cX10_current 19 = .ok (.getfield 22, 3) := dk_180 0 22 (dk_at dksX10_current_0 19 rfl rfl)
theorem dX10_current_22 : decode cX10_current 22 = .ok (.invokevirtual 32, 3) := dk_182 0 32 (dk_at dksX10_current_1 0 rfl rfl)
theorem dX10_current_25 : decode cX10_current 25 = .ok (.goto 4, 3) := dk_167 0 4 (dk_at dksX10_current_1 3 rfl rfl)
theorem dX10_current_28 : decode cX10_current 28 = .ok (.iconst 0, 1) := dk_3 (dk_at dksX10_current_1 6 rfl rfl)
theorem dX10_current_29 : decode cX10_current 29 = .ok (.ireturn, 1) := dk_172 (dk_at dksX10_current_1 7 rfl rfl)
def dkwX10_number_1 : List UInt8 := [182, 0, 55, 96, 167, 0, 4, 27, 172]
abbrev dktX10_number_1 : List UInt8 := dkwX10_number_1 ++ []
def dkwX10_number_0 : List UInt8 := [42, 182, 0, 55, 60, 42, 182, 0, 36, 16, 48, 16, 57, 184, 0, 58, 153, 0, 15, 16, 10, 27, 104, 42]
abbrev dktX10_number_0 : List UInt8 := dkwX10_number_0 ++ dktX10_number_1
theorem dksX10_number_0 : cX10_number.data.toList.drop 0 = dktX10_number_0 := by decide +kernel
theorem dksX10_number_1 : cX10_number.data.toList.drop 24 = dktX10_number_1 := dk_seg dksX10_number_0 24 rfl rfl
theorem dX10_number_0 : decode cX10_number 0 = .ok (.aload_n 0, 1) := dk_42 (dk_at dksX10_number_0 0 rfl rfl)
theorem dX10_number_1 : decode cX10_number 1 = .ok (.invokevirtual 55, 3) := dk_182 0 55 (dk_at dksX10_number_0 1 rfl rfl)
theorem dX10_number_4 : decode cX10_number 4 = .ok (.istore_n 1, 1) := dk_60 (dk_at dksX10_number_0 4 rfl rfl)
theorem dX10_number_5 : decode cX10_number 5 = .ok (.aload_n 0, 1) := dk_42 (dk_at dksX10_number_0 5 rfl rfl)
theorem dX10_number_6 : decode cX10_number 6 = .ok (.invokevirtual 36, 3) := dk_182 0 36 (dk_at dksX10_number_0 6 rfl rfl)
theorem dX10_number_9 : decode cX10_number 9 = .ok (.bipush 48, 2) := dk_16 48 (dk_at dksX10_number_0 9 rfl rfl)
theorem dX10_number_11 : decode cX10_number 11 = .ok (.bipush 57, 2) := dk_16 57 (dk_at dksX10_number_0 11 rfl rfl)
theorem dX10_number_13 : decode cX10_number 13 = .ok (.invokestatic 58, 3) := dk_184 0 58 (dk_at dksX10_number_0 13 rfl rfl)
theorem dX10_number_16 : decode cX10_number 16 = .ok (.ifCond .eq 15, 3) := dk_153 0 15 (dk_at dksX10_number_0 16 rfl rfl)
theorem dX10_number_19 : decode cX10_number 19 = .ok (.bipush 10, 2) := dk_16 10 (dk_at dksX10_number_0 19 rfl rfl)
theorem dX10_number_21 : decode cX10_number 21 = .ok (.iload_n 1, 1) := dk_27 (dk_at dksX10_number_0 21 rfl rfl)
theorem dX10_number_22 : decode cX10_number 22 = .ok (.imul, 1) := dk_104 (dk_at dksX10_number_0 22 rfl rfl)
theorem dX10_number_23 : decode cX10_number 23 = .ok (.aload_n 0, 1) := dk_42 (dk_at dksX10_number_0 23 rfl rfl)
theorem dX10_number_24 : decode cX10_number 24 = .ok (.invokevirtual 55, 3) := dk_182 0 55 (dk_at dksX10_number_1 0 rfl rfl)
theorem dX10_number_27 : decode cX10_number 27 = .ok (.iadd, 1) := dk_96 (dk_at dksX10_number_1 3 rfl rfl)
theorem dX10_number_28 : decode cX10_number 28 = .ok (.goto 4, 3) := dk_167 0 4 (dk_at dksX10_number_1 4 rfl rfl)
theorem dX10_number_31 : decode cX10_number 31 = .ok (.iload_n 1, 1) := dk_27 (dk_at dksX10_number_1 7 rfl rfl)
theorem dX10_number_32 : decode cX10_number 32 = .ok (.ireturn, 1) := dk_172 (dk_at dksX10_number_1 8 rfl rfl)
def dkwX10_digit_0 : List UInt8 := [42, 18, 49, 182, 0, 51, 16, 48, 100, 172]
abbrev dktX10_digit_0 : List UInt8 := dkwX10_digit_0 ++ []
theorem dksX10_digit_0 : cX10_digit.data.toList.drop 0 = dktX10_digit_0 := by decide +kernel
theorem dX10_digit_0 : decode cX10_digit 0 = .ok (.aload_n 0, 1) := dk_42 (dk_at dksX10_digit_0 0 rfl rfl)
theorem dX10_digit_1 : decode cX10_digit 1 = .ok (.ldc 49, 2) := dk_18 49 (dk_at dksX10_digit_0 1 rfl rfl)
theorem dX10_digit_3 : decode cX10_digit 3 = .ok (.invokevirtual 51, 3) := dk_182 0 51 (dk_at dksX10_digit_0 3 rfl rfl)
theorem dX10_digit_6 : decode cX10_digit 6 = .ok (.bipush 48, 2) := dk_16 48 (dk_at dksX10_digit_0 6 rfl rfl)
theorem dX10_digit_8 : decode cX10_digit 8 = .ok (.isub, 1) := dk_100 (dk_at dksX10_digit_0 8 rfl rfl)
theorem dX10_digit_9 : decode cX10_digit 9 = .ok (.ireturn, 1) := dk_172 (dk_at dksX10_digit_0 9 rfl rfl)
def dkwX10_expect_1 : List UInt8 := [180, 0, 22, 4, 96, 181, 0, 22, 177]
abbrev dktX10_expect_1 : List UInt8 := dkwX10_expect_1 ++ []
def dkwX10_expect_0 : List UInt8 := [42, 182, 0, 36, 27, 159, 0, 15, 187, 0, 40, 89, 42, 180, 0, 22, 183, 0, 42, 191, 42, 89]
abbrev dktX10_expect_0 : List UInt8 := dkwX10_expect_0 ++ dktX10_expect_1
theorem dksX10_expect_0 : cX10_expect.data.toList.drop 0 = dktX10_expect_0 := by decide +kernel
theorem dksX10_expect_1 : cX10_expect.data.toList.drop 22 = dktX10_expect_1 := dk_seg dksX10_expect_0 22 rfl rfl
theorem dX10_expect_0 : decode cX10_expect 0 = .ok (.aload_n 0, 1) := dk_42 (dk_at dksX10_expect_0 0 rfl rfl)
theorem dX10_expect_1 : decode cX10_expect 1 = .ok (.invokevirtual 36, 3) := dk_182 0 36 (dk_at dksX10_expect_0 1 rfl rfl)
theorem dX10_expect_4 : decode cX10_expect 4 = .ok (.iload_n 1, 1) := dk_27 (dk_at dksX10_expect_0 4 rfl rfl)
theorem dX10_expect_5 : decode cX10_expect 5 = .ok (.if_icmp .eq 15, 3) := dk_159 0 15 (dk_at dksX10_expect_0 5 rfl rfl)
theorem dX10_expect_8 : decode cX10_expect 8 = .ok (.new 40, 3) := dk_187 0 40 (dk_at dksX10_expect_0 8 rfl rfl)
theorem dX10_expect_11 : decode cX10_expect 11 = .ok (.dup, 1) := dk_89 (dk_at dksX10_expect_0 11 rfl rfl)
theorem dX10_expect_12 : decode cX10_expect 12 = .ok (.aload_n 0, 1) := dk_42 (dk_at dksX10_expect_0 12 rfl rfl)
theorem dX10_expect_13 : decode cX10_expect 13 = .ok (.getfield 22, 3) := dk_180 0 22 (dk_at dksX10_expect_0 13 rfl rfl)
theorem dX10_expect_16 : decode cX10_expect 16 = .ok (.invokespecial 42, 3) := dk_183 0 42 (dk_at dksX10_expect_0 16 rfl rfl)
theorem dX10_expect_19 : decode cX10_expect 19 = .ok (.athrow, 1) := dk_191 (dk_at dksX10_expect_0 19 rfl rfl)
theorem dX10_expect_20 : decode cX10_expect 20 = .ok (.aload_n 0, 1) := dk_42 (dk_at dksX10_expect_0 20 rfl rfl)
theorem dX10_expect_21 : decode cX10_expect 21 = .ok (.dup, 1) := dk_89 (dk_at dksX10_expect_0 21 rfl rfl)
theorem dX10_expect_22 : decode cX10_expect 22 = .ok (.getfield 22, 3) := dk_180 0 22 (dk_at dksX10_expect_1 0 rfl rfl)
theorem dX10_expect_25 : decode cX10_expect 25 = .ok (.iconst 1, 1) := dk_4 (dk_at dksX10_expect_1 3 rfl rfl)
theorem dX10_expect_26 : decode cX10_expect 26 = .ok (.iadd, 1) := dk_96 (dk_at dksX10_expect_1 4 rfl rfl)
theorem dX10_expect_27 : decode cX10_expect 27 = .ok (.putfield 22, 3) := dk_181 0 22 (dk_at dksX10_expect_1 5 rfl rfl)
theorem dX10_expect_30 : decode cX10_expect 30 = .ok (.return_, 1) := dk_177 (dk_at dksX10_expect_1 8 rfl rfl)
def dkwX11_init_0 : List UInt8 := [42, 1, 183, 0, 1, 42, 27, 181, 0, 7, 177]
abbrev dktX11_init_0 : List UInt8 := dkwX11_init_0 ++ []
theorem dksX11_init_0 : cX11_init.data.toList.drop 0 = dktX11_init_0 := by decide +kernel
theorem dX11_init_0 : decode cX11_init 0 = .ok (.aload_n 0, 1) := dk_42 (dk_at dksX11_init_0 0 rfl rfl)
theorem dX11_init_1 : decode cX11_init 1 = .ok (.aconst_null, 1) := dk_1 (dk_at dksX11_init_0 1 rfl rfl)
theorem dX11_init_2 : decode cX11_init 2 = .ok (.invokespecial 1, 3) := dk_183 0 1 (dk_at dksX11_init_0 2 rfl rfl)
theorem dX11_init_5 : decode cX11_init 5 = .ok (.aload_n 0, 1) := dk_42 (dk_at dksX11_init_0 5 rfl rfl)
theorem dX11_init_6 : decode cX11_init 6 = .ok (.iload_n 1, 1) := dk_27 (dk_at dksX11_init_0 6 rfl rfl)
theorem dX11_init_7 : decode cX11_init 7 = .ok (.putfield 7, 3) := dk_181 0 7 (dk_at dksX11_init_0 7 rfl rfl)
theorem dX11_init_10 : decode cX11_init 10 = .ok (.return_, 1) := dk_177 (dk_at dksX11_init_0 10 rfl rfl)
theorem dX11_detail_0 : decode cX11_detail 0 = .ok (.aload_n 0, 1) := by decide +kernel
theorem dX11_detail_1 : decode cX11_detail 1 = .ok (.getfield 7, 3) := by decide +kernel
theorem dX11_detail_4 : decode cX11_detail 4 = .ok (.ireturn, 1) := by decide +kernel
theorem dX11_reason_0 : decode cX11_reason 0 = .ok (.iconst 0, 1) := by decide +kernel
theorem dX11_reason_1 : decode cX11_reason 1 = .ok (.ireturn, 1) := by decide +kernel
def dkwX2_init_2 : List UInt8 := [186, 0, 37, 0, 0, 181, 0, 38, 42, 42, 186, 0, 41, 0, 0, 181, 0, 45, 177]
abbrev dktX2_init_2 : List UInt8 := dkwX2_init_2 ++ []
def dkwX2_init_1 : List UInt8 := [181, 0, 18, 42, 186, 0, 21, 0, 0, 181, 0, 25, 42, 186, 0, 29, 0, 0, 181, 0, 33, 42]
abbrev dktX2_init_1 : List UInt8 := dkwX2_init_1 ++ dktX2_init_2
def dkwX2_init_0 : List UInt8 := [42, 183, 0, 3, 42, 187, 0, 9, 89, 183, 0, 11, 181, 0, 12, 42, 187, 0, 9, 89, 183, 0, 11]
abbrev dktX2_init_0 : List UInt8 := dkwX2_init_0 ++ dktX2_init_1
theorem dksX2_init_0 : cX2_init.data.toList.drop 0 = dktX2_init_0 := by decide +kernel
theorem dksX2_init_1 : cX2_init.data.toList.drop 23 = dktX2_init_1 := dk_seg dksX2_init_0 23 rfl rfl
theorem dksX2_init_2 : cX2_init.data.toList.drop 45 = dktX2_init_2 := dk_seg dksX2_init_1 22 rfl rfl
theorem dX2_init_0 : decode cX2_init 0 = .ok (.aload_n 0, 1) := dk_42 (dk_at dksX2_init_0 0 rfl rfl)
theorem dX2_init_1 : decode cX2_init 1 = .ok (.invokespecial 3, 3) := dk_183 0 3 (dk_at dksX2_init_0 1 rfl rfl)
theorem dX2_init_4 : decode cX2_init 4 = .ok (.aload_n 0, 1) := dk_42 (dk_at dksX2_init_0 4 rfl rfl)
theorem dX2_init_5 : decode cX2_init 5 = .ok (.new 9, 3) := dk_187 0 9 (dk_at dksX2_init_0 5 rfl rfl)
theorem dX2_init_8 : decode cX2_init 8 = .ok (.dup, 1) := dk_89 (dk_at dksX2_init_0 8 rfl rfl)
theorem dX2_init_9 : decode cX2_init 9 = .ok (.invokespecial 11, 3) := dk_183 0 11 (dk_at dksX2_init_0 9 rfl rfl)
theorem dX2_init_12 : decode cX2_init 12 = .ok (.putfield 12, 3) := dk_181 0 12 (dk_at dksX2_init_0 12 rfl rfl)
theorem dX2_init_15 : decode cX2_init 15 = .ok (.aload_n 0, 1) := dk_42 (dk_at dksX2_init_0 15 rfl rfl)
theorem dX2_init_16 : decode cX2_init 16 = .ok (.new 9, 3) := dk_187 0 9 (dk_at dksX2_init_0 16 rfl rfl)
theorem dX2_init_19 : decode cX2_init 19 = .ok (.dup, 1) := dk_89 (dk_at dksX2_init_0 19 rfl rfl)
theorem dX2_init_20 : decode cX2_init 20 = .ok (.invokespecial 11, 3) := dk_183 0 11 (dk_at dksX2_init_0 20 rfl rfl)
theorem dX2_init_23 : decode cX2_init 23 = .ok (.putfield 18, 3) := dk_181 0 18 (dk_at dksX2_init_1 0 rfl rfl)
theorem dX2_init_26 : decode cX2_init 26 = .ok (.aload_n 0, 1) := dk_42 (dk_at dksX2_init_1 3 rfl rfl)
theorem dX2_init_27 : decode cX2_init 27 = .ok (.invokedynamic 21, 5) := by decide +kernel
theorem dX2_init_32 : decode cX2_init 32 = .ok (.putfield 25, 3) := dk_181 0 25 (dk_at dksX2_init_1 9 rfl rfl)
theorem dX2_init_35 : decode cX2_init 35 = .ok (.aload_n 0, 1) := dk_42 (dk_at dksX2_init_1 12 rfl rfl)
theorem dX2_init_36 : decode cX2_init 36 = .ok (.invokedynamic 29, 5) := by decide +kernel
theorem dX2_init_41 : decode cX2_init 41 = .ok (.putfield 33, 3) := dk_181 0 33 (dk_at dksX2_init_1 18 rfl rfl)
theorem dX2_init_44 : decode cX2_init 44 = .ok (.aload_n 0, 1) := dk_42 (dk_at dksX2_init_1 21 rfl rfl)
theorem dX2_init_45 : decode cX2_init 45 = .ok (.invokedynamic 37, 5) := by decide +kernel
theorem dX2_init_50 : decode cX2_init 50 = .ok (.putfield 38, 3) := dk_181 0 38 (dk_at dksX2_init_2 5 rfl rfl)
theorem dX2_init_53 : decode cX2_init 53 = .ok (.aload_n 0, 1) := dk_42 (dk_at dksX2_init_2 8 rfl rfl)
theorem dX2_init_54 : decode cX2_init 54 = .ok (.aload_n 0, 1) := dk_42 (dk_at dksX2_init_2 9 rfl rfl)
theorem dX2_init_55 : decode cX2_init 55 = .ok (.invokedynamic 41, 5) := by decide +kernel
theorem dX2_init_60 : decode cX2_init 60 = .ok (.putfield 45, 3) := dk_181 0 45 (dk_at dksX2_init_2 15 rfl rfl)
theorem dX2_init_63 : decode cX2_init 63 = .ok (.return_, 1) := dk_177 (dk_at dksX2_init_2 18 rfl rfl)
def dkwX2_lambda_new_0_0 : List UInt8 := [42, 182, 0, 104, 154, 0, 7, 4, 167, 0, 4, 3, 172]
abbrev dktX2_lambda_new_0_0 : List UInt8 := dkwX2_lambda_new_0_0 ++ []
theorem dksX2_lambda_new_0_0 : cX2_lambda_new_0.data.toList.drop 0 = dktX2_lambda_new_0_0 := by decide +kernel
theorem dX2_lambda_new_0_0 : decode cX2_lambda_new_0 0 = .ok (.aload_n 0, 1) := dk_42 (dk_at dksX2_lambda_new_0_0 0 rfl rfl)
theorem dX2_lambda_new_0_1 : decode cX2_lambda_new_0 1 = .ok (.invokevirtual 104, 3) := dk_182 0 104 (dk_at dksX2_lambda_new_0_0 1 rfl rfl)
theorem dX2_lambda_new_0_4 : decode cX2_lambda_new_0 4 = .ok (.ifCond .ne 7, 3) := dk_154 0 7 (dk_at dksX2_lambda_new_0_0 4 rfl rfl)
theorem dX2_lambda_new_0_7 : decode cX2_lambda_new_0 7 = .ok (.iconst 1, 1) := dk_4 (dk_at dksX2_lambda_new_0_0 7 rfl rfl)
theorem dX2_lambda_new_0_8 : decode cX2_lambda_new_0 8 = .ok (.goto 4, 3) := dk_167 0 4 (dk_at dksX2_lambda_new_0_0 8 rfl rfl)
theorem dX2_lambda_new_0_11 : decode cX2_lambda_new_0 11 = .ok (.iconst 0, 1) := dk_3 (dk_at dksX2_lambda_new_0_0 11 rfl rfl)
theorem dX2_lambda_new_0_12 : decode cX2_lambda_new_0 12 = .ok (.ireturn, 1) := dk_172 (dk_at dksX2_lambda_new_0_0 12 rfl rfl)
theorem dX2_lambda_new_1_0 : decode cX2_lambda_new_1 0 = .ok (.aload_n 0, 1) := by decide +kernel
theorem dX2_lambda_new_1_1 : decode cX2_lambda_new_1 1 = .ok (.getfield 93, 3) := by decide +kernel
theorem dX2_lambda_new_1_4 : decode cX2_lambda_new_1 4 = .ok (.ireturn, 1) := by decide +kernel
theorem dX2_lambda_new_2_0 : decode cX2_lambda_new_2 0 = .ok (.iconst 1, 1) := by decide +kernel
theorem dX2_lambda_new_2_1 : decode cX2_lambda_new_2 1 = .ok (.ireturn, 1) := by decide +kernel
def dkwX2_lambda_new_3_2 : List UInt8 := [180, 0, 70, 162, 0, 7, 4, 167, 0, 4, 3, 172]
abbrev dktX2_lambda_new_3_2 : List UInt8 := dkwX2_lambda_new_3_2 ++ []
def dkwX2_lambda_new_3_1 : List UInt8 := [157, 0, 28, 29, 154, 0, 28, 21, 4, 157, 0, 19, 21, 4, 154, 0, 18, 43, 180, 0, 70, 44]
abbrev dktX2_lambda_new_3_1 : List UInt8 := dkwX2_lambda_new_3_1 ++ dktX2_lambda_new_3_2
def dkwX2_lambda_new_3_0 : List UInt8 := [42, 43, 182, 0, 249, 42, 44, 182, 0, 249, 100, 62, 44, 182, 0, 176, 43, 182, 0, 176, 100, 54, 4, 29]
abbrev dktX2_lambda_new_3_0 : List UInt8 := dkwX2_lambda_new_3_0 ++ dktX2_lambda_new_3_1
theorem dksX2_lambda_new_3_0 : cX2_lambda_new_3.data.toList.drop 0 = dktX2_lambda_new_3_0 := by decide +kernel
theorem dksX2_lambda_new_3_1 : cX2_lambda_new_3.data.toList.drop 24 = dktX2_lambda_new_3_1 := dk_seg dksX2_lambda_new_3_0 24 rfl rfl
theorem dksX2_lambda_new_3_2 : cX2_lambda_new_3.data.toList.drop 46 = dktX2_lambda_new_3_2 := dk_seg dksX2_lambda_new_3_1 22 rfl rfl
theorem dX2_lambda_new_3_0 : decode cX2_lambda_new_3 0 = .ok (.aload_n 0, 1) := dk_42 (dk_at dksX2_lambda_new_3_0 0 rfl rfl)
theorem dX2_lambda_new_3_1 : decode cX2_lambda_new_3 1 = .ok (.aload_n 1, 1) := dk_43 (dk_at dksX2_lambda_new_3_0 1 rfl rfl)
theorem dX2_lambda_new_3_2 : decode cX2_lambda_new_3 2 = .ok (.invokevirtual 249, 3) := dk_182 0 249 (dk_at dksX2_lambda_new_3_0 2 rfl rfl)
theorem dX2_lambda_new_3_5 : decode cX2_lambda_new_3 5 = .ok (.aload_n 0, 1) := dk_42 (dk_at dksX2_lambda_new_3_0 5 rfl rfl)
theorem dX2_lambda_new_3_6 : decode cX2_lambda_new_3 6 = .ok (.aload_n 2, 1) := dk_44 (dk_at dksX2_lambda_new_3_0 6 rfl rfl)
theorem dX2_lambda_new_3_7 : decode cX2_lambda_new_3 7 = .ok (.invokevirtual 249, 3) := dk_182 0 249 (dk_at dksX2_lambda_new_3_0 7 rfl rfl)
theorem dX2_lambda_new_3_10 : decode cX2_lambda_new_3 10 = .ok (.isub, 1) := dk_100 (dk_at dksX2_lambda_new_3_0 10 rfl rfl)
theorem dX2_lambda_new_3_11 : decode cX2_lambda_new_3 11 = .ok (.istore_n 3, 1) := dk_62 (dk_at dksX2_lambda_new_3_0 11 rfl rfl)
theorem dX2_lambda_new_3_12 : decode cX2_lambda_new_3 12 = .ok (.aload_n 2, 1) := dk_44 (dk_at dksX2_lambda_new_3_0 12 rfl rfl)
theorem dX2_lambda_new_3_13 : decode cX2_lambda_new_3 13 = .ok (.invokevirtual 176, 3) := dk_182 0 176 (dk_at dksX2_lambda_new_3_0 13 rfl rfl)
theorem dX2_lambda_new_3_16 : decode cX2_lambda_new_3 16 = .ok (.aload_n 1, 1) := dk_43 (dk_at dksX2_lambda_new_3_0 16 rfl rfl)
theorem dX2_lambda_new_3_17 : decode cX2_lambda_new_3 17 = .ok (.invokevirtual 176, 3) := dk_182 0 176 (dk_at dksX2_lambda_new_3_0 17 rfl rfl)
theorem dX2_lambda_new_3_20 : decode cX2_lambda_new_3 20 = .ok (.isub, 1) := dk_100 (dk_at dksX2_lambda_new_3_0 20 rfl rfl)
theorem dX2_lambda_new_3_21 : decode cX2_lambda_new_3 21 = .ok (.istore 4, 2) := dk_54 4 (dk_at dksX2_lambda_new_3_0 21 rfl rfl)
theorem dX2_lambda_new_3_23 : decode cX2_lambda_new_3 23 = .ok (.iload_n 3, 1) := dk_29 (dk_at dksX2_lambda_new_3_0 23 rfl rfl)
theorem dX2_lambda_new_3_24 : decode cX2_lambda_new_3 24 = .ok (.ifCond .gt 28, 3) := dk_157 0 28 (dk_at dksX2_lambda_new_3_1 0 rfl rfl)
theorem dX2_lambda_new_3_27 : decode cX2_lambda_new_3 27 = .ok (.iload_n 3, 1) := dk_29 (dk_at dksX2_lambda_new_3_1 3 rfl rfl)
theorem dX2_lambda_new_3_28 : decode cX2_lambda_new_3 28 = .ok (.ifCond .ne 28, 3) := dk_154 0 28 (dk_at dksX2_lambda_new_3_1 4 rfl rfl)
theorem dX2_lambda_new_3_31 : decode cX2_lambda_new_3 31 = .ok (.iload 4, 2) := dk_21 4 (dk_at dksX2_lambda_new_3_1 7 rfl rfl)
theorem dX2_lambda_new_3_33 : decode cX2_lambda_new_3 33 = .ok (.ifCond .gt 19, 3) := dk_157 0 19 (dk_at dksX2_lambda_new_3_1 9 rfl rfl)
theorem dX2_lambda_new_3_36 : decode cX2_lambda_new_3 36 = .ok (.iload 4, 2) := dk_21 4 (dk_at dksX2_lambda_new_3_1 12 rfl rfl)
theorem dX2_lambda_new_3_38 : decode cX2_lambda_new_3 38 = .ok (.ifCond .ne 18, 3) := dk_154 0 18 (dk_at dksX2_lambda_new_3_1 14 rfl rfl)
theorem dX2_lambda_new_3_41 : decode cX2_lambda_new_3 41 = .ok (.aload_n 1, 1) := dk_43 (dk_at dksX2_lambda_new_3_1 17 rfl rfl)
theorem dX2_lambda_new_3_42 : decode cX2_lambda_new_3 42 = .ok (.getfield 70, 3) := dk_180 0 70 (dk_at dksX2_lambda_new_3_1 18 rfl rfl)
theorem dX2_lambda_new_3_45 : decode cX2_lambda_new_3 45 = .ok (.aload_n 2, 1) := dk_44 (dk_at dksX2_lambda_new_3_1 21 rfl rfl)
theorem dX2_lambda_new_3_46 : decode cX2_lambda_new_3 46 = .ok (.getfield 70, 3) := dk_180 0 70 (dk_at dksX2_lambda_new_3_2 0 rfl rfl)
theorem dX2_lambda_new_3_49 : decode cX2_lambda_new_3 49 = .ok (.if_icmp .ge 7, 3) := dk_162 0 7 (dk_at dksX2_lambda_new_3_2 3 rfl rfl)
theorem dX2_lambda_new_3_52 : decode cX2_lambda_new_3 52 = .ok (.iconst 1, 1) := dk_4 (dk_at dksX2_lambda_new_3_2 6 rfl rfl)
theorem dX2_lambda_new_3_53 : decode cX2_lambda_new_3 53 = .ok (.goto 4, 3) := dk_167 0 4 (dk_at dksX2_lambda_new_3_2 7 rfl rfl)
theorem dX2_lambda_new_3_56 : decode cX2_lambda_new_3 56 = .ok (.iconst 0, 1) := dk_3 (dk_at dksX2_lambda_new_3_2 10 rfl rfl)
theorem dX2_lambda_new_3_57 : decode cX2_lambda_new_3 57 = .ok (.ireturn, 1) := dk_172 (dk_at dksX2_lambda_new_3_2 11 rfl rfl)
def dkwX2_strengthOf_0 : List UInt8 := [42, 43, 186, 0, 150, 0, 0, 42, 180, 0, 33, 182, 0, 153, 172]
abbrev dktX2_strengthOf_0 : List UInt8 := dkwX2_strengthOf_0 ++ []
theorem dksX2_strengthOf_0 : cX2_strengthOf.data.toList.drop 0 = dktX2_strengthOf_0 := by decide +kernel
theorem dX2_strengthOf_0 : decode cX2_strengthOf 0 = .ok (.aload_n 0, 1) := dk_42 (dk_at dksX2_strengthOf_0 0 rfl rfl)
theorem dX2_strengthOf_1 : decode cX2_strengthOf 1 = .ok (.aload_n 1, 1) := dk_43 (dk_at dksX2_strengthOf_0 1 rfl rfl)
theorem dX2_strengthOf_2 : decode cX2_strengthOf 2 = .ok (.invokedynamic 150, 5) := by decide +kernel
theorem dX2_strengthOf_7 : decode cX2_strengthOf 7 = .ok (.aload_n 0, 1) := dk_42 (dk_at dksX2_strengthOf_0 7 rfl rfl)
theorem dX2_strengthOf_8 : decode cX2_strengthOf 8 = .ok (.getfield 33, 3) := dk_180 0 33 (dk_at dksX2_strengthOf_0 8 rfl rfl)
theorem dX2_strengthOf_11 : decode cX2_strengthOf 11 = .ok (.invokevirtual 153, 3) := dk_182 0 153 (dk_at dksX2_strengthOf_0 11 rfl rfl)
theorem dX2_strengthOf_14 : decode cX2_strengthOf 14 = .ok (.ireturn, 1) := dk_172 (dk_at dksX2_strengthOf_0 14 rfl rfl)
def dkwX2_lambda_strengthOf_4_0 : List UInt8 := [43, 180, 0, 107, 42, 166, 0, 7, 4, 167, 0, 4, 3, 172]
abbrev dktX2_lambda_strengthOf_4_0 : List UInt8 := dkwX2_lambda_strengthOf_4_0 ++ []
theorem dksX2_lambda_strengthOf_4_0 : cX2_lambda_strengthOf_4.data.toList.drop 0 = dktX2_lambda_strengthOf_4_0 := by decide +kernel
theorem dX2_lambda_strengthOf_4_0 : decode cX2_lambda_strengthOf_4 0 = .ok (.aload_n 1, 1) := dk_43 (dk_at dksX2_lambda_strengthOf_4_0 0 rfl rfl)
theorem dX2_lambda_strengthOf_4_1 : decode cX2_lambda_strengthOf_4 1 = .ok (.getfield 107, 3) := dk_180 0 107 (dk_at dksX2_lambda_strengthOf_4_0 1 rfl rfl)
theorem dX2_lambda_strengthOf_4_4 : decode cX2_lambda_strengthOf_4 4 = .ok (.aload_n 0, 1) := dk_42 (dk_at dksX2_lambda_strengthOf_4_0 4 rfl rfl)
theorem dX2_lambda_strengthOf_4_5 : decode cX2_lambda_strengthOf_4 5 = .ok (.if_acmp .ne 7, 3) := dk_166 0 7 (dk_at dksX2_lambda_strengthOf_4_0 5 rfl rfl)
theorem dX2_lambda_strengthOf_4_8 : decode cX2_lambda_strengthOf_4 8 = .ok (.iconst 1, 1) := dk_4 (dk_at dksX2_lambda_strengthOf_4_0 8 rfl rfl)
theorem dX2_lambda_strengthOf_4_9 : decode cX2_lambda_strengthOf_4 9 = .ok (.goto 4, 3) := dk_167 0 4 (dk_at dksX2_lambda_strengthOf_4_0 9 rfl rfl)
theorem dX2_lambda_strengthOf_4_12 : decode cX2_lambda_strengthOf_4 12 = .ok (.iconst 0, 1) := dk_3 (dk_at dksX2_lambda_strengthOf_4_0 12 rfl rfl)
theorem dX2_lambda_strengthOf_4_13 : decode cX2_lambda_strengthOf_4 13 = .ok (.ireturn, 1) := dk_172 (dk_at dksX2_lambda_strengthOf_4_0 13 rfl rfl)
def dkwX2_sum_2 : List UInt8 := [25, 5, 185, 0, 145, 2, 0, 167, 0, 4, 3, 96, 62, 167, 255, 208, 29, 172]
abbrev dktX2_sum_2 : List UInt8 := dkwX2_sum_2 ++ []
def dkwX2_sum_1 : List UInt8 := [185, 0, 60, 1, 0, 192, 0, 86, 58, 5, 29, 43, 25, 5, 185, 0, 140, 2, 0, 153, 0, 14, 44]
abbrev dktX2_sum_1 : List UInt8 := dkwX2_sum_1 ++ dktX2_sum_2
def dkwX2_sum_0 : List UInt8 := [3, 62, 42, 180, 0, 18, 182, 0, 50, 58, 4, 25, 4, 185, 0, 54, 1, 0, 153, 0, 44, 25, 4]
abbrev dktX2_sum_0 : List UInt8 := dkwX2_sum_0 ++ dktX2_sum_1
theorem dksX2_sum_0 : cX2_sum.data.toList.drop 0 = dktX2_sum_0 := by decide +kernel
theorem dksX2_sum_1 : cX2_sum.data.toList.drop 23 = dktX2_sum_1 := dk_seg dksX2_sum_0 23 rfl rfl
theorem dksX2_sum_2 : cX2_sum.data.toList.drop 46 = dktX2_sum_2 := dk_seg dksX2_sum_1 23 rfl rfl
theorem dX2_sum_0 : decode cX2_sum 0 = .ok (.iconst 0, 1) := dk_3 (dk_at dksX2_sum_0 0 rfl rfl)
theorem dX2_sum_1 : decode cX2_sum 1 = .ok (.istore_n 3, 1) := dk_62 (dk_at dksX2_sum_0 1 rfl rfl)
theorem dX2_sum_2 : decode cX2_sum 2 = .ok (.aload_n 0, 1) := dk_42 (dk_at dksX2_sum_0 2 rfl rfl)
theorem dX2_sum_3 : decode cX2_sum 3 = .ok (.getfield 18, 3) := dk_180 0 18 (dk_at dksX2_sum_0 3 rfl rfl)
theorem dX2_sum_6 : decode cX2_sum 6 = .ok (.invokevirtual 50, 3) := dk_182 0 50 (dk_at dksX2_sum_0 6 rfl rfl)
theorem dX2_sum_9 : decode cX2_sum 9 = .ok (.astore 4, 2) := dk_58 4 (dk_at dksX2_sum_0 9 rfl rfl)
theorem dX2_sum_11 : decode cX2_sum 11 = .ok (.aload 4, 2) := dk_25 4 (dk_at dksX2_sum_0 11 rfl rfl)
theorem dX2_sum_13 : decode cX2_sum 13 = .ok (.invokeinterface 54 1, 5) := by decide +kernel
theorem dX2_sum_18 : decode cX2_sum 18 = .ok (.ifCond .eq 44, 3) := dk_153 0 44 (dk_at dksX2_sum_0 18 rfl rfl)
theorem dX2_sum_21 : decode cX2_sum 21 = .ok (.aload 4, 2) := dk_25 4 (dk_at dksX2_sum_0 21 rfl rfl)
theorem dX2_sum_23 : decode cX2_sum 23 = .ok (.invokeinterface 60 1, 5) := by decide +kernel
theorem dX2_sum_28 : decode cX2_sum 28 = .ok (.checkcast 86, 3) := dk_192 0 86 (dk_at dksX2_sum_1 5 rfl rfl)
theorem dX2_sum_31 : decode cX2_sum 31 = .ok (.astore 5, 2) := dk_58 5 (dk_at dksX2_sum_1 8 rfl rfl)
theorem dX2_sum_33 : decode cX2_sum 33 = .ok (.iload_n 3, 1) := dk_29 (dk_at dksX2_sum_1 10 rfl rfl)
theorem dX2_sum_34 : decode cX2_sum 34 = .ok (.aload_n 1, 1) := dk_43 (dk_at dksX2_sum_1 11 rfl rfl)
theorem dX2_sum_35 : decode cX2_sum 35 = .ok (.aload 5, 2) := dk_25 5 (dk_at dksX2_sum_1 12 rfl rfl)
theorem dX2_sum_37 : decode cX2_sum 37 = .ok (.invokeinterface 140 2, 5) := by decide +kernel
theorem dX2_sum_42 : decode cX2_sum 42 = .ok (.ifCond .eq 14, 3) := dk_153 0 14 (dk_at dksX2_sum_1 19 rfl rfl)
theorem dX2_sum_45 : decode cX2_sum 45 = .ok (.aload_n 2, 1) := dk_44 (dk_at dksX2_sum_1 22 rfl rfl)
theorem dX2_sum_46 : decode cX2_sum 46 = .ok (.aload 5, 2) := dk_25 5 (dk_at dksX2_sum_2 0 rfl rfl)
theorem dX2_sum_48 : decode cX2_sum 48 = .ok (.invokeinterface 145 2, 5) := by decide +kernel
theorem dX2_sum_53 : decode cX2_sum 53 = .ok (.goto 4, 3) := dk_167 0 4 (dk_at dksX2_sum_2 7 rfl rfl)
theorem dX2_sum_56 : decode cX2_sum 56 = .ok (.iconst 0, 1) := dk_3 (dk_at dksX2_sum_2 10 rfl rfl)
theorem dX2_sum_57 : decode cX2_sum 57 = .ok (.iadd, 1) := dk_96 (dk_at dksX2_sum_2 11 rfl rfl)
theorem dX2_sum_58 : decode cX2_sum 58 = .ok (.istore_n 3, 1) := dk_62 (dk_at dksX2_sum_2 12 rfl rfl)
theorem dX2_sum_59 : decode cX2_sum 59 = .ok (.goto (-48), 3) := dk_167 255 208 (dk_at dksX2_sum_2 13 rfl rfl)
theorem dX2_sum_62 : decode cX2_sum 62 = .ok (.iload_n 3, 1) := dk_29 (dk_at dksX2_sum_2 16 rfl rfl)
theorem dX2_sum_63 : decode cX2_sum 63 = .ok (.ireturn, 1) := dk_172 (dk_at dksX2_sum_2 17 rfl rfl)
def dkwX2_living_1 : List UInt8 := [185, 0, 60, 1, 0, 192, 0, 64, 78, 27, 45, 180, 0, 82, 184, 0, 164, 96, 60, 167, 255, 227, 27, 172]
abbrev dktX2_living_1 : List UInt8 := dkwX2_living_1 ++ []
def dkwX2_living_0 : List UInt8 := [3, 60, 42, 180, 0, 12, 182, 0, 50, 77, 44, 185, 0, 54, 1, 0, 153, 0, 26, 44]
abbrev dktX2_living_0 : List UInt8 := dkwX2_living_0 ++ dktX2_living_1
theorem dksX2_living_0 : cX2_living.data.toList.drop 0 = dktX2_living_0 := by decide +kernel
theorem dksX2_living_1 : cX2_living.data.toList.drop 20 = dktX2_living_1 := dk_seg dksX2_living_0 20 rfl rfl
theorem dX2_living_0 : decode cX2_living 0 = .ok (.iconst 0, 1) := dk_3 (dk_at dksX2_living_0 0 rfl rfl)
theorem dX2_living_1 : decode cX2_living 1 = .ok (.istore_n 1, 1) := dk_60 (dk_at dksX2_living_0 1 rfl rfl)
theorem dX2_living_2 : decode cX2_living 2 = .ok (.aload_n 0, 1) := dk_42 (dk_at dksX2_living_0 2 rfl rfl)
theorem dX2_living_3 : decode cX2_living 3 = .ok (.getfield 12, 3) := dk_180 0 12 (dk_at dksX2_living_0 3 rfl rfl)
theorem dX2_living_6 : decode cX2_living 6 = .ok (.invokevirtual 50, 3) := dk_182 0 50 (dk_at dksX2_living_0 6 rfl rfl)
theorem dX2_living_9 : decode cX2_living 9 = .ok (.astore_n 2, 1) := dk_77 (dk_at dksX2_living_0 9 rfl rfl)
theorem dX2_living_10 : decode cX2_living 10 = .ok (.aload_n 2, 1) := dk_44 (dk_at dksX2_living_0 10 rfl rfl)
theorem dX2_living_11 : decode cX2_living 11 = .ok (.invokeinterface 54 1, 5) := by decide +kernel
theorem dX2_living_16 : decode cX2_living 16 = .ok (.ifCond .eq 26, 3) := dk_153 0 26 (dk_at dksX2_living_0 16 rfl rfl)
theorem dX2_living_19 : decode cX2_living 19 = .ok (.aload_n 2, 1) := dk_44 (dk_at dksX2_living_0 19 rfl rfl)
theorem dX2_living_20 : decode cX2_living 20 = .ok (.invokeinterface 60 1, 5) := by decide +kernel
theorem dX2_living_25 : decode cX2_living 25 = .ok (.checkcast 64, 3) := dk_192 0 64 (dk_at dksX2_living_1 5 rfl rfl)
theorem dX2_living_28 : decode cX2_living 28 = .ok (.astore_n 3, 1) := dk_78 (dk_at dksX2_living_1 8 rfl rfl)
theorem dX2_living_29 : decode cX2_living 29 = .ok (.iload_n 1, 1) := dk_27 (dk_at dksX2_living_1 9 rfl rfl)
theorem dX2_living_30 : decode cX2_living 30 = .ok (.aload_n 3, 1) := dk_45 (dk_at dksX2_living_1 10 rfl rfl)
theorem dX2_living_31 : decode cX2_living 31 = .ok (.getfield 82, 3) := dk_180 0 82 (dk_at dksX2_living_1 11 rfl rfl)
theorem dX2_living_34 : decode cX2_living 34 = .ok (.invokestatic 164, 3) := dk_184 0 164 (dk_at dksX2_living_1 14 rfl rfl)
theorem dX2_living_37 : decode cX2_living 37 = .ok (.iadd, 1) := dk_96 (dk_at dksX2_living_1 17 rfl rfl)
theorem dX2_living_38 : decode cX2_living 38 = .ok (.istore_n 1, 1) := dk_60 (dk_at dksX2_living_1 18 rfl rfl)
theorem dX2_living_39 : decode cX2_living 39 = .ok (.goto (-29), 3) := dk_167 255 227 (dk_at dksX2_living_1 19 rfl rfl)
theorem dX2_living_42 : decode cX2_living 42 = .ok (.iload_n 1, 1) := dk_27 (dk_at dksX2_living_1 22 rfl rfl)
theorem dX2_living_43 : decode cX2_living 43 = .ok (.ireturn, 1) := dk_172 (dk_at dksX2_living_1 23 rfl rfl)
def dkwX2_totalByPeople_1 : List UInt8 := [185, 0, 60, 1, 0, 192, 0, 64, 78, 27, 42, 45, 182, 0, 249, 96, 60, 167, 255, 229, 27, 172]
abbrev dktX2_totalByPeople_1 : List UInt8 := dkwX2_totalByPeople_1 ++ []
def dkwX2_totalByPeople_0 : List UInt8 := [3, 60, 42, 180, 0, 12, 182, 0, 50, 77, 44, 185, 0, 54, 1, 0, 153, 0, 24, 44]
abbrev dktX2_totalByPeople_0 : List UInt8 := dkwX2_totalByPeople_0 ++ dktX2_totalByPeople_1
theorem dksX2_totalByPeople_0 : cX2_totalByPeople.data.toList.drop 0 = dktX2_totalByPeople_0 := by decide +kernel
theorem dksX2_totalByPeople_1 : cX2_totalByPeople.data.toList.drop 20 = dktX2_totalByPeople_1 := dk_seg dksX2_totalByPeople_0 20 rfl rfl
theorem dX2_totalByPeople_0 : decode cX2_totalByPeople 0 = .ok (.iconst 0, 1) := dk_3 (dk_at dksX2_totalByPeople_0 0 rfl rfl)
theorem dX2_totalByPeople_1 : decode cX2_totalByPeople 1 = .ok (.istore_n 1, 1) := dk_60 (dk_at dksX2_totalByPeople_0 1 rfl rfl)
theorem dX2_totalByPeople_2 : decode cX2_totalByPeople 2 = .ok (.aload_n 0, 1) := dk_42 (dk_at dksX2_totalByPeople_0 2 rfl rfl)
theorem dX2_totalByPeople_3 : decode cX2_totalByPeople 3 = .ok (.getfield 12, 3) := dk_180 0 12 (dk_at dksX2_totalByPeople_0 3 rfl rfl)
theorem dX2_totalByPeople_6 : decode cX2_totalByPeople 6 = .ok (.invokevirtual 50, 3) := dk_182 0 50 (dk_at dksX2_totalByPeople_0 6 rfl rfl)
theorem dX2_totalByPeople_9 : decode cX2_totalByPeople 9 = .ok (.astore_n 2, 1) := dk_77 (dk_at dksX2_totalByPeople_0 9 rfl rfl)
theorem dX2_totalByPeople_10 : decode cX2_totalByPeople 10 = .ok (.aload_n 2, 1) := dk_44 (dk_at dksX2_totalByPeople_0 10 rfl rfl)
theorem dX2_totalByPeople_11 : decode cX2_totalByPeople 11 = .ok (.invokeinterface 54 1, 5) := by decide +kernel
theorem dX2_totalByPeople_16 : decode cX2_totalByPeople 16 = .ok (.ifCond .eq 24, 3) := dk_153 0 24 (dk_at dksX2_totalByPeople_0 16 rfl rfl)
theorem dX2_totalByPeople_19 : decode cX2_totalByPeople 19 = .ok (.aload_n 2, 1) := dk_44 (dk_at dksX2_totalByPeople_0 19 rfl rfl)
theorem dX2_totalByPeople_20 : decode cX2_totalByPeople 20 = .ok (.invokeinterface 60 1, 5) := by decide +kernel
theorem dX2_totalByPeople_25 : decode cX2_totalByPeople 25 = .ok (.checkcast 64, 3) := dk_192 0 64 (dk_at dksX2_totalByPeople_1 5 rfl rfl)
theorem dX2_totalByPeople_28 : decode cX2_totalByPeople 28 = .ok (.astore_n 3, 1) := dk_78 (dk_at dksX2_totalByPeople_1 8 rfl rfl)
theorem dX2_totalByPeople_29 : decode cX2_totalByPeople 29 = .ok (.iload_n 1, 1) := dk_27 (dk_at dksX2_totalByPeople_1 9 rfl rfl)
theorem dX2_totalByPeople_30 : decode cX2_totalByPeople 30 = .ok (.aload_n 0, 1) := dk_42 (dk_at dksX2_totalByPeople_1 10 rfl rfl)
theorem dX2_totalByPeople_31 : decode cX2_totalByPeople 31 = .ok (.aload_n 3, 1) := dk_45 (dk_at dksX2_totalByPeople_1 11 rfl rfl)
theorem dX2_totalByPeople_32 : decode cX2_totalByPeople 32 = .ok (.invokevirtual 249, 3) := dk_182 0 249 (dk_at dksX2_totalByPeople_1 12 rfl rfl)
theorem dX2_totalByPeople_35 : decode cX2_totalByPeople 35 = .ok (.iadd, 1) := dk_96 (dk_at dksX2_totalByPeople_1 15 rfl rfl)
theorem dX2_totalByPeople_36 : decode cX2_totalByPeople 36 = .ok (.istore_n 1, 1) := dk_60 (dk_at dksX2_totalByPeople_1 16 rfl rfl)
theorem dX2_totalByPeople_37 : decode cX2_totalByPeople 37 = .ok (.goto (-27), 3) := dk_167 255 229 (dk_at dksX2_totalByPeople_1 17 rfl rfl)
theorem dX2_totalByPeople_40 : decode cX2_totalByPeople 40 = .ok (.iload_n 1, 1) := dk_27 (dk_at dksX2_totalByPeople_1 20 rfl rfl)
theorem dX2_totalByPeople_41 : decode cX2_totalByPeople 41 = .ok (.ireturn, 1) := dk_172 (dk_at dksX2_totalByPeople_1 21 rfl rfl)
def dkwX2_isConsistent_6 : List UInt8 := [45, 25, 5, 182, 1, 22, 160, 0, 7, 4, 167, 0, 4, 3, 60, 167, 255, 207, 167, 255, 145, 27, 172]
abbrev dktX2_isConsistent_6 : List UInt8 := dkwX2_isConsistent_6 ++ []
def dkwX2_isConsistent_5 : List UInt8 := [25, 4, 185, 0, 60, 1, 0, 192, 0, 64, 58, 5, 27, 153, 0, 24, 42, 45, 25, 5, 182, 0, 245, 42]
abbrev dktX2_isConsistent_5 : List UInt8 := dkwX2_isConsistent_5 ++ dktX2_isConsistent_6
def dkwX2_isConsistent_4 : List UInt8 := [167, 0, 4, 3, 60, 42, 180, 0, 12, 182, 0, 50, 58, 4, 25, 4, 185, 0, 54, 1, 0, 153, 0, 45]
abbrev dktX2_isConsistent_4 : List UInt8 := dkwX2_isConsistent_4 ++ dktX2_isConsistent_5
def dkwX2_isConsistent_3 : List UInt8 := [42, 45, 182, 0, 214, 42, 45, 182, 1, 16, 166, 0, 15, 42, 45, 182, 1, 19, 153, 0, 7, 4]
abbrev dktX2_isConsistent_3 : List UInt8 := dkwX2_isConsistent_3 ++ dktX2_isConsistent_4
def dkwX2_isConsistent_2 : List UInt8 := [77, 44, 185, 0, 54, 1, 0, 153, 0, 108, 44, 185, 0, 60, 1, 0, 192, 0, 64, 78, 27, 153, 0, 28]
abbrev dktX2_isConsistent_2 : List UInt8 := dkwX2_isConsistent_2 ++ dktX2_isConsistent_3
def dkwX2_isConsistent_1 : List UInt8 := [186, 1, 15, 0, 0, 182, 0, 160, 199, 0, 7, 4, 167, 0, 4, 3, 60, 42, 180, 0, 12, 182, 0, 50]
abbrev dktX2_isConsistent_1 : List UInt8 := dkwX2_isConsistent_1 ++ dktX2_isConsistent_2
def dkwX2_isConsistent_0 : List UInt8 := [42, 42, 180, 0, 25, 42, 180, 0, 33, 182, 0, 153, 42, 182, 1, 12, 160, 0, 19, 42]
abbrev dktX2_isConsistent_0 : List UInt8 := dkwX2_isConsistent_0 ++ dktX2_isConsistent_1
theorem dksX2_isConsistent_0 : cX2_isConsistent.data.toList.drop 0 = dktX2_isConsistent_0 := by decide +kernel
theorem dksX2_isConsistent_1 : cX2_isConsistent.data.toList.drop 20 = dktX2_isConsistent_1 := dk_seg dksX2_isConsistent_0 20 rfl rfl
theorem dksX2_isConsistent_2 : cX2_isConsistent.data.toList.drop 44 = dktX2_isConsistent_2 := dk_seg dksX2_isConsistent_1 24 rfl rfl
theorem dksX2_isConsistent_3 : cX2_isConsistent.data.toList.drop 68 = dktX2_isConsistent_3 := dk_seg dksX2_isConsistent_2 24 rfl rfl
theorem dksX2_isConsistent_4 : cX2_isConsistent.data.toList.drop 90 = dktX2_isConsistent_4 := dk_seg dksX2_isConsistent_3 22 rfl rfl
theorem dksX2_isConsistent_5 : cX2_isConsistent.data.toList.drop 114 = dktX2_isConsistent_5 := dk_seg dksX2_isConsistent_4 24 rfl rfl
theorem dksX2_isConsistent_6 : cX2_isConsistent.data.toList.drop 138 = dktX2_isConsistent_6 := dk_seg dksX2_isConsistent_5 24 rfl rfl
theorem dX2_isConsistent_0 : decode cX2_isConsistent 0 = .ok (.aload_n 0, 1) := dk_42 (dk_at dksX2_isConsistent_0 0 rfl rfl)
theorem dX2_isConsistent_1 : decode cX2_isConsistent 1 = .ok (.aload_n 0, 1) := dk_42 (dk_at dksX2_isConsistent_0 1 rfl rfl)
theorem dX2_isConsistent_2 : decode cX2_isConsistent 2 = .ok (.getfield 25, 3) := dk_180 0 25 (dk_at dksX2_isConsistent_0 2 rfl rfl)
theorem dX2_isConsistent_5 : decode cX2_isConsistent 5 = .ok (.aload_n 0, 1) := dk_42 (dk_at dksX2_isConsistent_0 5 rfl rfl)
theorem dX2_isConsistent_6 : decode cX2_isConsistent 6 = .ok (.getfield 33, 3) := dk_180 0 33 (dk_at dksX2_isConsistent_0 6 rfl rfl)
theorem dX2_isConsistent_9 : decode cX2_isConsistent 9 = .ok (.invokevirtual 153, 3) := dk_182 0 153 (dk_at dksX2_isConsistent_0 9 rfl rfl)
theorem dX2_isConsistent_12 : decode cX2_isConsistent 12 = .ok (.aload_n 0, 1) := dk_42 (dk_at dksX2_isConsistent_0 12 rfl rfl)
theorem dX2_isConsistent_13 : decode cX2_isConsistent 13 = .ok (.invokevirtual 268, 3) := dk_182 1 12 (dk_at dksX2_isConsistent_0 13 rfl rfl)
theorem dX2_isConsistent_16 : decode cX2_isConsistent 16 = .ok (.if_icmp .ne 19, 3) := dk_160 0 19 (dk_at dksX2_isConsistent_0 16 rfl rfl)
theorem dX2_isConsistent_19 : decode cX2_isConsistent 19 = .ok (.aload_n 0, 1) := dk_42 (dk_at dksX2_isConsistent_0 19 rfl rfl)
theorem dX2_isConsistent_20 : decode cX2_isConsistent 20 = .ok (.invokedynamic 271, 5) := by decide +kernel
theorem dX2_isConsistent_25 : decode cX2_isConsistent 25 = .ok (.invokevirtual 160, 3) := dk_182 0 160 (dk_at dksX2_isConsistent_1 5 rfl rfl)
theorem dX2_isConsistent_28 : decode cX2_isConsistent 28 = .ok (.ifnonnull 7, 3) := dk_199 0 7 (dk_at dksX2_isConsistent_1 8 rfl rfl)
theorem dX2_isConsistent_31 : decode cX2_isConsistent 31 = .ok (.iconst 1, 1) := dk_4 (dk_at dksX2_isConsistent_1 11 rfl rfl)
theorem dX2_isConsistent_32 : decode cX2_isConsistent 32 = .ok (.goto 4, 3) := dk_167 0 4 (dk_at dksX2_isConsistent_1 12 rfl rfl)
theorem dX2_isConsistent_35 : decode cX2_isConsistent 35 = .ok (.iconst 0, 1) := dk_3 (dk_at dksX2_isConsistent_1 15 rfl rfl)
theorem dX2_isConsistent_36 : decode cX2_isConsistent 36 = .ok (.istore_n 1, 1) := dk_60 (dk_at dksX2_isConsistent_1 16 rfl rfl)
theorem dX2_isConsistent_37 : decode cX2_isConsistent 37 = .ok (.aload_n 0, 1) := dk_42 (dk_at dksX2_isConsistent_1 17 rfl rfl)
theorem dX2_isConsistent_38 : decode cX2_isConsistent 38 = .ok (.getfield 12, 3) := dk_180 0 12 (dk_at dksX2_isConsistent_1 18 rfl rfl)
theorem dX2_isConsistent_41 : decode cX2_isConsistent 41 = .ok (.invokevirtual 50, 3) := dk_182 0 50 (dk_at dksX2_isConsistent_1 21 rfl rfl)
theorem dX2_isConsistent_44 : decode cX2_isConsistent 44 = .ok (.astore_n 2, 1) := dk_77 (dk_at dksX2_isConsistent_2 0 rfl rfl)
theorem dX2_isConsistent_45 : decode cX2_isConsistent 45 = .ok (.aload_n 2, 1) := dk_44 (dk_at dksX2_isConsistent_2 1 rfl rfl)
theorem dX2_isConsistent_46 : decode cX2_isConsistent 46 = .ok (.invokeinterface 54 1, 5) := by decide +kernel
theorem dX2_isConsistent_51 : decode cX2_isConsistent 51 = .ok (.ifCond .eq 108, 3) := dk_153 0 108 (dk_at dksX2_isConsistent_2 7 rfl rfl)
theorem dX2_isConsistent_54 : decode cX2_isConsistent 54 = .ok (.aload_n 2, 1) := dk_44 (dk_at dksX2_isConsistent_2 10 rfl rfl)
theorem dX2_isConsistent_55 : decode cX2_isConsistent 55 = .ok (.invokeinterface 60 1, 5) := by decide +kernel
theorem dX2_isConsistent_60 : decode cX2_isConsistent 60 = .ok (.checkcast 64, 3) := dk_192 0 64 (dk_at dksX2_isConsistent_2 16 rfl rfl)
theorem dX2_isConsistent_63 : decode cX2_isConsistent 63 = .ok (.astore_n 3, 1) := dk_78 (dk_at dksX2_isConsistent_2 19 rfl rfl)
theorem dX2_isConsistent_64 : decode cX2_isConsistent 64 = .ok (.iload_n 1, 1) := dk_27 (dk_at dksX2_isConsistent_2 20 rfl rfl)
theorem dX2_isConsistent_65 : decode cX2_isConsistent 65 = .ok (.ifCond .eq 28, 3) := dk_153 0 28 (dk_at dksX2_isConsistent_2 21 rfl rfl)
theorem dX2_isConsistent_68 : decode cX2_isConsistent 68 = .ok (.aload_n 0, 1) := dk_42 (dk_at dksX2_isConsistent_3 0 rfl rfl)
theorem dX2_isConsistent_69 : decode cX2_isConsistent 69 = .ok (.aload_n 3, 1) := dk_45 (dk_at dksX2_isConsistent_3 1 rfl rfl)
theorem dX2_isConsistent_70 : decode cX2_isConsistent 70 = .ok (.invokevirtual 214, 3) := dk_182 0 214 (dk_at dksX2_isConsistent_3 2 rfl rfl)
theorem dX2_isConsistent_73 : decode cX2_isConsistent 73 = .ok (.aload_n 0, 1) := dk_42 (dk_at dksX2_isConsistent_3 5 rfl rfl)
theorem dX2_isConsistent_74 : decode cX2_isConsistent 74 = .ok (.aload_n 3, 1) := dk_45 (dk_at dksX2_isConsistent_3 6 rfl rfl)
theorem dX2_isConsistent_75 : decode cX2_isConsistent 75 = .ok (.invokevirtual 272, 3) := dk_182 1 16 (dk_at dksX2_isConsistent_3 7 rfl rfl)
theorem dX2_isConsistent_78 : decode cX2_isConsistent 78 = .ok (.if_acmp .ne 15, 3) := dk_166 0 15 (dk_at dksX2_isConsistent_3 10 rfl rfl)
theorem dX2_isConsistent_81 : decode cX2_isConsistent 81 = .ok (.aload_n 0, 1) := dk_42 (dk_at dksX2_isConsistent_3 13 rfl rfl)
theorem dX2_isConsistent_82 : decode cX2_isConsistent 82 = .ok (.aload_n 3, 1) := dk_45 (dk_at dksX2_isConsistent_3 14 rfl rfl)
theorem dX2_isConsistent_83 : decode cX2_isConsistent 83 = .ok (.invokevirtual 275, 3) := dk_182 1 19 (dk_at dksX2_isConsistent_3 15 rfl rfl)
theorem dX2_isConsistent_86 : decode cX2_isConsistent 86 = .ok (.ifCond .eq 7, 3) := dk_153 0 7 (dk_at dksX2_isConsistent_3 18 rfl rfl)
theorem dX2_isConsistent_89 : decode cX2_isConsistent 89 = .ok (.iconst 1, 1) := dk_4 (dk_at dksX2_isConsistent_3 21 rfl rfl)
theorem dX2_isConsistent_90 : decode cX2_isConsistent 90 = .ok (.goto 4, 3) := dk_167 0 4 (dk_at dksX2_isConsistent_4 0 rfl rfl)
theorem dX2_isConsistent_93 : decode cX2_isConsistent 93 = .ok (.iconst 0, 1) := dk_3 (dk_at dksX2_isConsistent_4 3 rfl rfl)
theorem dX2_isConsistent_94 : decode cX2_isConsistent 94 = .ok (.istore_n 1, 1) := dk_60 (dk_at dksX2_isConsistent_4 4 rfl rfl)
theorem dX2_isConsistent_95 : decode cX2_isConsistent 95 = .ok (.aload_n 0, 1) := dk_42 (dk_at dksX2_isConsistent_4 5 rfl rfl)
theorem dX2_isConsistent_96 : decode cX2_isConsistent 96 = .ok (.getfield 12, 3) := dk_180 0 12 (dk_at dksX2_isConsistent_4 6 rfl rfl)
theorem dX2_isConsistent_99 : decode cX2_isConsistent 99 = .ok (.invokevirtual 50, 3) := dk_182 0 50 (dk_at dksX2_isConsistent_4 9 rfl rfl)
theorem dX2_isConsistent_102 : decode cX2_isConsistent 102 = .ok (.astore 4, 2) := dk_58 4 (dk_at dksX2_isConsistent_4 12 rfl rfl)
theorem dX2_isConsistent_104 : decode cX2_isConsistent 104 = .ok (.aload 4, 2) := dk_25 4 (dk_at dksX2_isConsistent_4 14 rfl rfl)
theorem dX2_isConsistent_106 : decode cX2_isConsistent 106 = .ok (.invokeinterface 54 1, 5) := by decide +kernel
theorem dX2_isConsistent_111 : decode cX2_isConsistent 111 = .ok (.ifCond .eq 45, 3) := dk_153 0 45 (dk_at dksX2_isConsistent_4 21 rfl rfl)
theorem dX2_isConsistent_114 : decode cX2_isConsistent 114 = .ok (.aload 4, 2) := dk_25 4 (dk_at dksX2_isConsistent_5 0 rfl rfl)
theorem dX2_isConsistent_116 : decode cX2_isConsistent 116 = .ok (.invokeinterface 60 1, 5) := by decide +kernel
theorem dX2_isConsistent_121 : decode cX2_isConsistent 121 = .ok (.checkcast 64, 3) := dk_192 0 64 (dk_at dksX2_isConsistent_5 7 rfl rfl)
theorem dX2_isConsistent_124 : decode cX2_isConsistent 124 = .ok (.astore 5, 2) := dk_58 5 (dk_at dksX2_isConsistent_5 10 rfl rfl)
theorem dX2_isConsistent_126 : decode cX2_isConsistent 126 = .ok (.iload_n 1, 1) := dk_27 (dk_at dksX2_isConsistent_5 12 rfl rfl)
theorem dX2_isConsistent_127 : decode cX2_isConsistent 127 = .ok (.ifCond .eq 24, 3) := dk_153 0 24 (dk_at dksX2_isConsistent_5 13 rfl rfl)
theorem dX2_isConsistent_130 : decode cX2_isConsistent 130 = .ok (.aload_n 0, 1) := dk_42 (dk_at dksX2_isConsistent_5 16 rfl rfl)
theorem dX2_isConsistent_131 : decode cX2_isConsistent 131 = .ok (.aload_n 3, 1) := dk_45 (dk_at dksX2_isConsistent_5 17 rfl rfl)
theorem dX2_isConsistent_132 : decode cX2_isConsistent 132 = .ok (.aload 5, 2) := dk_25 5 (dk_at dksX2_isConsistent_5 18 rfl rfl)
theorem dX2_isConsistent_134 : decode cX2_isConsistent 134 = .ok (.invokevirtual 245, 3) := dk_182 0 245 (dk_at dksX2_isConsistent_5 20 rfl rfl)
theorem dX2_isConsistent_137 : decode cX2_isConsistent 137 = .ok (.aload_n 0, 1) := dk_42 (dk_at dksX2_isConsistent_5 23 rfl rfl)
theorem dX2_isConsistent_138 : decode cX2_isConsistent 138 = .ok (.aload_n 3, 1) := dk_45 (dk_at dksX2_isConsistent_6 0 rfl rfl)
theorem dX2_isConsistent_139 : decode cX2_isConsistent 139 = .ok (.aload 5, 2) := dk_25 5 (dk_at dksX2_isConsistent_6 1 rfl rfl)
theorem dX2_isConsistent_141 : decode cX2_isConsistent 141 = .ok (.invokevirtual 278, 3) := dk_182 1 22 (dk_at dksX2_isConsistent_6 3 rfl rfl)
theorem dX2_isConsistent_144 : decode cX2_isConsistent 144 = .ok (.if_icmp .ne 7, 3) := dk_160 0 7 (dk_at dksX2_isConsistent_6 6 rfl rfl)
theorem dX2_isConsistent_147 : decode cX2_isConsistent 147 = .ok (.iconst 1, 1) := dk_4 (dk_at dksX2_isConsistent_6 9 rfl rfl)
theorem dX2_isConsistent_148 : decode cX2_isConsistent 148 = .ok (.goto 4, 3) := dk_167 0 4 (dk_at dksX2_isConsistent_6 10 rfl rfl)
theorem dX2_isConsistent_151 : decode cX2_isConsistent 151 = .ok (.iconst 0, 1) := dk_3 (dk_at dksX2_isConsistent_6 13 rfl rfl)
theorem dX2_isConsistent_152 : decode cX2_isConsistent 152 = .ok (.istore_n 1, 1) := dk_60 (dk_at dksX2_isConsistent_6 14 rfl rfl)
theorem dX2_isConsistent_153 : decode cX2_isConsistent 153 = .ok (.goto (-49), 3) := dk_167 255 207 (dk_at dksX2_isConsistent_6 15 rfl rfl)
theorem dX2_isConsistent_156 : decode cX2_isConsistent 156 = .ok (.goto (-111), 3) := dk_167 255 145 (dk_at dksX2_isConsistent_6 18 rfl rfl)
theorem dX2_isConsistent_159 : decode cX2_isConsistent 159 = .ok (.iload_n 1, 1) := dk_27 (dk_at dksX2_isConsistent_6 21 rfl rfl)
theorem dX2_isConsistent_160 : decode cX2_isConsistent 160 = .ok (.ireturn, 1) := dk_172 (dk_at dksX2_isConsistent_6 22 rfl rfl)
def dkwX2_lambda_isConsistent_10_0 : List UInt8 := [42, 182, 0, 104, 154, 0, 17, 42, 180, 0, 107, 180, 0, 82, 154, 0, 7, 4, 167, 0, 4, 3, 172]
abbrev dktX2_lambda_isConsistent_10_0 : List UInt8 := dkwX2_lambda_isConsistent_10_0 ++ []
theorem dksX2_lambda_isConsistent_10_0 : cX2_lambda_isConsistent_10.data.toList.drop 0 = dktX2_lambda_isConsistent_10_0 := by decide +kernel
theorem dX2_lambda_isConsistent_10_0 : decode cX2_lambda_isConsistent_10 0 = .ok (.aload_n 0, 1) := dk_42 (dk_at dksX2_lambda_isConsistent_10_0 0 rfl rfl)
theorem dX2_lambda_isConsistent_10_1 : decode cX2_lambda_isConsistent_10 1 = .ok (.invokevirtual 104, 3) := dk_182 0 104 (dk_at dksX2_lambda_isConsistent_10_0 1 rfl rfl)
theorem dX2_lambda_isConsistent_10_4 : decode cX2_lambda_isConsistent_10 4 = .ok (.ifCond .ne 17, 3) := dk_154 0 17 (dk_at dksX2_lambda_isConsistent_10_0 4 rfl rfl)
theorem dX2_lambda_isConsistent_10_7 : decode cX2_lambda_isConsistent_10 7 = .ok (.aload_n 0, 1) := dk_42 (dk_at dksX2_lambda_isConsistent_10_0 7 rfl rfl)
theorem dX2_lambda_isConsistent_10_8 : decode cX2_lambda_isConsistent_10 8 = .ok (.getfield 107, 3) := dk_180 0 107 (dk_at dksX2_lambda_isConsistent_10_0 8 rfl rfl)
theorem dX2_lambda_isConsistent_10_11 : decode cX2_lambda_isConsistent_10 11 = .ok (.getfield 82, 3) := dk_180 0 82 (dk_at dksX2_lambda_isConsistent_10_0 11 rfl rfl)
theorem dX2_lambda_isConsistent_10_14 : decode cX2_lambda_isConsistent_10 14 = .ok (.ifCond .ne 7, 3) := dk_154 0 7 (dk_at dksX2_lambda_isConsistent_10_0 14 rfl rfl)
theorem dX2_lambda_isConsistent_10_17 : decode cX2_lambda_isConsistent_10 17 = .ok (.iconst 1, 1) := dk_4 (dk_at dksX2_lambda_isConsistent_10_0 17 rfl rfl)
theorem dX2_lambda_isConsistent_10_18 : decode cX2_lambda_isConsistent_10 18 = .ok (.goto 4, 3) := dk_167 0 4 (dk_at dksX2_lambda_isConsistent_10_0 18 rfl rfl)
theorem dX2_lambda_isConsistent_10_21 : decode cX2_lambda_isConsistent_10 21 = .ok (.iconst 0, 1) := dk_3 (dk_at dksX2_lambda_isConsistent_10_0 21 rfl rfl)
theorem dX2_lambda_isConsistent_10_22 : decode cX2_lambda_isConsistent_10 22 = .ok (.ireturn, 1) := dk_172 (dk_at dksX2_lambda_isConsistent_10_0 22 rfl rfl)
def dkwX2_find_1 : List UInt8 := [192, 0, 86, 78, 43, 45, 185, 0, 140, 2, 0, 153, 0, 5, 45, 176, 167, 255, 225, 1, 176]
abbrev dktX2_find_1 : List UInt8 := dkwX2_find_1 ++ []
def dkwX2_find_0 : List UInt8 := [42, 180, 0, 18, 182, 0, 50, 77, 44, 185, 0, 54, 1, 0, 153, 0, 28, 44, 185, 0, 60, 1, 0]
abbrev dktX2_find_0 : List UInt8 := dkwX2_find_0 ++ dktX2_find_1
theorem dksX2_find_0 : cX2_find.data.toList.drop 0 = dktX2_find_0 := by decide +kernel
theorem dksX2_find_1 : cX2_find.data.toList.drop 23 = dktX2_find_1 := dk_seg dksX2_find_0 23 rfl rfl
theorem dX2_find_0 : decode cX2_find 0 = .ok (.aload_n 0, 1) := dk_42 (dk_at dksX2_find_0 0 rfl rfl)
theorem dX2_find_1 : decode cX2_find 1 = .ok (.getfield 18, 3) := dk_180 0 18 (dk_at dksX2_find_0 1 rfl rfl)
theorem dX2_find_4 : decode cX2_find 4 = .ok (.invokevirtual 50, 3) := dk_182 0 50 (dk_at dksX2_find_0 4 rfl rfl)
theorem dX2_find_7 : decode cX2_find 7 = .ok (.astore_n 2, 1) := dk_77 (dk_at dksX2_find_0 7 rfl rfl)
theorem dX2_find_8 : decode cX2_find 8 = .ok (.aload_n 2, 1) := dk_44 (dk_at dksX2_find_0 8 rfl rfl)
theorem dX2_find_9 : decode cX2_find 9 = .ok (.invokeinterface 54 1, 5) := by decide +kernel
theorem dX2_find_14 : decode cX2_find 14 = .ok (.ifCond .eq 28, 3) := dk_153 0 28 (dk_at dksX2_find_0 14 rfl rfl)
theorem dX2_find_17 : decode cX2_find 17 = .ok (.aload_n 2, 1) := dk_44 (dk_at dksX2_find_0 17 rfl rfl)
theorem dX2_find_18 : decode cX2_find 18 = .ok (.invokeinterface 60 1, 5) := by decide +kernel
theorem dX2_find_23 : decode cX2_find 23 = .ok (.checkcast 86, 3) := dk_192 0 86 (dk_at dksX2_find_1 0 rfl rfl)
theorem dX2_find_26 : decode cX2_find 26 = .ok (.astore_n 3, 1) := dk_78 (dk_at dksX2_find_1 3 rfl rfl)
theorem dX2_find_27 : decode cX2_find 27 = .ok (.aload_n 1, 1) := dk_43 (dk_at dksX2_find_1 4 rfl rfl)
theorem dX2_find_28 : decode cX2_find 28 = .ok (.aload_n 3, 1) := dk_45 (dk_at dksX2_find_1 5 rfl rfl)
theorem dX2_find_29 : decode cX2_find 29 = .ok (.invokeinterface 140 2, 5) := by decide +kernel
theorem dX2_find_34 : decode cX2_find 34 = .ok (.ifCond .eq 5, 3) := dk_153 0 5 (dk_at dksX2_find_1 11 rfl rfl)
theorem dX2_find_37 : decode cX2_find 37 = .ok (.aload_n 3, 1) := dk_45 (dk_at dksX2_find_1 14 rfl rfl)
theorem dX2_find_38 : decode cX2_find 38 = .ok (.areturn, 1) := dk_176 (dk_at dksX2_find_1 15 rfl rfl)
theorem dX2_find_39 : decode cX2_find 39 = .ok (.goto (-31), 3) := dk_167 255 225 (dk_at dksX2_find_1 16 rfl rfl)
theorem dX2_find_42 : decode cX2_find 42 = .ok (.aconst_null, 1) := dk_1 (dk_at dksX2_find_1 19 rfl rfl)
theorem dX2_find_43 : decode cX2_find 43 = .ok (.areturn, 1) := dk_176 (dk_at dksX2_find_1 20 rfl rfl)
def dkwX2_heir_1 : List UInt8 := [153, 0, 7, 45, 167, 0, 8, 45, 43, 182, 0, 179, 77, 45, 180, 0, 66, 78, 167, 255, 226, 44, 176]
abbrev dktX2_heir_1 : List UInt8 := dkwX2_heir_1 ++ []
def dkwX2_heir_0 : List UInt8 := [42, 43, 182, 0, 182, 77, 43, 180, 0, 66, 78, 45, 198, 0, 32, 44, 199, 0, 28, 45, 180, 0, 82]
abbrev dktX2_heir_0 : List UInt8 := dkwX2_heir_0 ++ dktX2_heir_1
theorem dksX2_heir_0 : cX2_heir.data.toList.drop 0 = dktX2_heir_0 := by decide +kernel
theorem dksX2_heir_1 : cX2_heir.data.toList.drop 23 = dktX2_heir_1 := dk_seg dksX2_heir_0 23 rfl rfl
theorem dX2_heir_0 : decode cX2_heir 0 = .ok (.aload_n 0, 1) := dk_42 (dk_at dksX2_heir_0 0 rfl rfl)
theorem dX2_heir_1 : decode cX2_heir 1 = .ok (.aload_n 1, 1) := dk_43 (dk_at dksX2_heir_0 1 rfl rfl)
theorem dX2_heir_2 : decode cX2_heir 2 = .ok (.invokevirtual 182, 3) := dk_182 0 182 (dk_at dksX2_heir_0 2 rfl rfl)
theorem dX2_heir_5 : decode cX2_heir 5 = .ok (.astore_n 2, 1) := dk_77 (dk_at dksX2_heir_0 5 rfl rfl)
theorem dX2_heir_6 : decode cX2_heir 6 = .ok (.aload_n 1, 1) := dk_43 (dk_at dksX2_heir_0 6 rfl rfl)
theorem dX2_heir_7 : decode cX2_heir 7 = .ok (.getfield 66, 3) := dk_180 0 66 (dk_at dksX2_heir_0 7 rfl rfl)
theorem dX2_heir_10 : decode cX2_heir 10 = .ok (.astore_n 3, 1) := dk_78 (dk_at dksX2_heir_0 10 rfl rfl)
theorem dX2_heir_11 : decode cX2_heir 11 = .ok (.aload_n 3, 1) := dk_45 (dk_at dksX2_heir_0 11 rfl rfl)
theorem dX2_heir_12 : decode cX2_heir 12 = .ok (.ifnull 32, 3) := dk_198 0 32 (dk_at dksX2_heir_0 12 rfl rfl)
theorem dX2_heir_15 : decode cX2_heir 15 = .ok (.aload_n 2, 1) := dk_44 (dk_at dksX2_heir_0 15 rfl rfl)
theorem dX2_heir_16 : decode cX2_heir 16 = .ok (.ifnonnull 28, 3) := dk_199 0 28 (dk_at dksX2_heir_0 16 rfl rfl)
theorem dX2_heir_19 : decode cX2_heir 19 = .ok (.aload_n 3, 1) := dk_45 (dk_at dksX2_heir_0 19 rfl rfl)
theorem dX2_heir_20 : decode cX2_heir 20 = .ok (.getfield 82, 3) := dk_180 0 82 (dk_at dksX2_heir_0 20 rfl rfl)
theorem dX2_heir_23 : decode cX2_heir 23 = .ok (.ifCond .eq 7, 3) := dk_153 0 7 (dk_at dksX2_heir_1 0 rfl rfl)
theorem dX2_heir_26 : decode cX2_heir 26 = .ok (.aload_n 3, 1) := dk_45 (dk_at dksX2_heir_1 3 rfl rfl)
theorem dX2_heir_27 : decode cX2_heir 27 = .ok (.goto 8, 3) := dk_167 0 8 (dk_at dksX2_heir_1 4 rfl rfl)
theorem dX2_heir_30 : decode cX2_heir 30 = .ok (.aload_n 3, 1) := dk_45 (dk_at dksX2_heir_1 7 rfl rfl)
theorem dX2_heir_31 : decode cX2_heir 31 = .ok (.aload_n 1, 1) := dk_43 (dk_at dksX2_heir_1 8 rfl rfl)
theorem dX2_heir_32 : decode cX2_heir 32 = .ok (.invokevirtual 179, 3) := dk_182 0 179 (dk_at dksX2_heir_1 9 rfl rfl)
theorem dX2_heir_35 : decode cX2_heir 35 = .ok (.astore_n 2, 1) := dk_77 (dk_at dksX2_heir_1 12 rfl rfl)
theorem dX2_heir_36 : decode cX2_heir 36 = .ok (.aload_n 3, 1) := dk_45 (dk_at dksX2_heir_1 13 rfl rfl)
theorem dX2_heir_37 : decode cX2_heir 37 = .ok (.getfield 66, 3) := dk_180 0 66 (dk_at dksX2_heir_1 14 rfl rfl)
theorem dX2_heir_40 : decode cX2_heir 40 = .ok (.astore_n 3, 1) := dk_78 (dk_at dksX2_heir_1 17 rfl rfl)
theorem dX2_heir_41 : decode cX2_heir 41 = .ok (.goto (-30), 3) := dk_167 255 226 (dk_at dksX2_heir_1 18 rfl rfl)
theorem dX2_heir_44 : decode cX2_heir 44 = .ok (.aload_n 2, 1) := dk_44 (dk_at dksX2_heir_1 21 rfl rfl)
theorem dX2_heir_45 : decode cX2_heir 45 = .ok (.areturn, 1) := dk_176 (dk_at dksX2_heir_1 22 rfl rfl)
def dkwX2_directHeir_0 : List UInt8 := [43, 1, 182, 0, 179, 176]
abbrev dktX2_directHeir_0 : List UInt8 := dkwX2_directHeir_0 ++ []
theorem dksX2_directHeir_0 : cX2_directHeir.data.toList.drop 0 = dktX2_directHeir_0 := by decide +kernel
theorem dX2_directHeir_0 : decode cX2_directHeir 0 = .ok (.aload_n 1, 1) := dk_43 (dk_at dksX2_directHeir_0 0 rfl rfl)
theorem dX2_directHeir_1 : decode cX2_directHeir 1 = .ok (.aconst_null, 1) := dk_1 (dk_at dksX2_directHeir_0 1 rfl rfl)
theorem dX2_directHeir_2 : decode cX2_directHeir 2 = .ok (.invokevirtual 179, 3) := dk_182 0 179 (dk_at dksX2_directHeir_0 2 rfl rfl)
theorem dX2_directHeir_5 : decode cX2_directHeir 5 = .ok (.areturn, 1) := dk_176 (dk_at dksX2_directHeir_0 5 rfl rfl)
def dkwX2_heirByComparison_4 : List UInt8 := [153, 0, 8, 25, 5, 167, 0, 4, 45, 78, 167, 255, 173, 45, 176]
abbrev dktX2_heirByComparison_4 : List UInt8 := dkwX2_heirByComparison_4 ++ []
def dkwX2_heirByComparison_3 : List UInt8 := [167, 0, 4, 3, 54, 6, 21, 6, 153, 0, 24, 45, 198, 0, 15, 44, 25, 5, 45, 185, 0, 199, 3, 0]
abbrev dktX2_heirByComparison_3 : List UInt8 := dkwX2_heirByComparison_3 ++ dktX2_heirByComparison_4
def dkwX2_heirByComparison_2 : List UInt8 := [165, 0, 27, 25, 5, 180, 0, 82, 153, 0, 19, 25, 5, 182, 0, 188, 43, 182, 0, 188, 166, 0, 7, 4]
abbrev dktX2_heirByComparison_2 : List UInt8 := dkwX2_heirByComparison_2 ++ dktX2_heirByComparison_3
def dkwX2_heirByComparison_1 : List UInt8 := [185, 0, 54, 1, 0, 153, 0, 79, 25, 4, 185, 0, 60, 1, 0, 192, 0, 64, 58, 5, 25, 5, 43]
abbrev dktX2_heirByComparison_1 : List UInt8 := dkwX2_heirByComparison_1 ++ dktX2_heirByComparison_2
def dkwX2_heirByComparison_0 : List UInt8 := [42, 43, 186, 0, 196, 0, 0, 77, 1, 78, 42, 180, 0, 12, 182, 0, 50, 58, 4, 25, 4]
abbrev dktX2_heirByComparison_0 : List UInt8 := dkwX2_heirByComparison_0 ++ dktX2_heirByComparison_1
theorem dksX2_heirByComparison_0 : cX2_heirByComparison.data.toList.drop 0 = dktX2_heirByComparison_0 := by decide +kernel
theorem dksX2_heirByComparison_1 : cX2_heirByComparison.data.toList.drop 21 = dktX2_heirByComparison_1 := dk_seg dksX2_heirByComparison_0 21 rfl rfl
theorem dksX2_heirByComparison_2 : cX2_heirByComparison.data.toList.drop 44 = dktX2_heirByComparison_2 := dk_seg dksX2_heirByComparison_1 23 rfl rfl
theorem dksX2_heirByComparison_3 : cX2_heirByComparison.data.toList.drop 68 = dktX2_heirByComparison_3 := dk_seg dksX2_heirByComparison_2 24 rfl rfl
theorem dksX2_heirByComparison_4 : cX2_heirByComparison.data.toList.drop 92 = dktX2_heirByComparison_4 := dk_seg dksX2_heirByComparison_3 24 rfl rfl
theorem dX2_heirByComparison_0 : decode cX2_heirByComparison 0 = .ok (.aload_n 0, 1) := dk_42 (dk_at dksX2_heirByComparison_0 0 rfl rfl)
theorem dX2_heirByComparison_1 : decode cX2_heirByComparison 1 = .ok (.aload_n 1, 1) := dk_43 (dk_at dksX2_heirByComparison_0 1 rfl rfl)
theorem dX2_heirByComparison_2 : decode cX2_heirByComparison 2 = .ok (.invokedynamic 196, 5) := by decide +kernel
theorem dX2_heirByComparison_7 : decode cX2_heirByComparison 7 = .ok (.astore_n 2, 1) := dk_77 (dk_at dksX2_heirByComparison_0 7 rfl rfl)
theorem dX2_heirByComparison_8 : decode cX2_heirByComparison 8 = .ok (.aconst_null, 1) := dk_1 (dk_at dksX2_heirByComparison_0 8 rfl rfl)
theorem dX2_heirByComparison_9 : decode cX2_heirByComparison 9 = .ok (.astore_n 3, 1) := dk_78 (dk_at dksX2_heirByComparison_0 9 rfl rfl)
theorem dX2_heirByComparison_10 : decode cX2_heirByComparison 10 = .ok (.aload_n 0, 1) := dk_42 (dk_at dksX2_heirByComparison_0 10 rfl rfl)
theorem dX2_heirByComparison_11 : decode cX2_heirByComparison 11 = .ok (.getfield 12, 3) := dk_180 0 12 (dk_at dksX2_heirByComparison_0 11 rfl rfl)
theorem dX2_heirByComparison_14 : decode cX2_heirByComparison 14 = .ok (.invokevirtual 50, 3) := dk_182 0 50 (dk_at dksX2_heirByComparison_0 14 rfl rfl)
theorem dX2_heirByComparison_17 : decode cX2_heirByComparison 17 = .ok (.astore 4, 2) := dk_58 4 (dk_at dksX2_heirByComparison_0 17 rfl rfl)
theorem dX2_heirByComparison_19 : decode cX2_heirByComparison 19 = .ok (.aload 4, 2) := dk_25 4 (dk_at dksX2_heirByComparison_0 19 rfl rfl)
theorem dX2_heirByComparison_21 : decode cX2_heirByComparison 21 = .ok (.invokeinterface 54 1, 5) := by decide +kernel
theorem dX2_heirByComparison_26 : decode cX2_heirByComparison 26 = .ok (.ifCond .eq 79, 3) := dk_153 0 79 (dk_at dksX2_heirByComparison_1 5 rfl rfl)
theorem dX2_heirByComparison_29 : decode cX2_heirByComparison 29 = .ok (.aload 4, 2) := dk_25 4 (dk_at dksX2_heirByComparison_1 8 rfl rfl)
theorem dX2_heirByComparison_31 : decode cX2_heirByComparison 31 = .ok (.invokeinterface 60 1, 5) := by decide +kernel
theorem dX2_heirByComparison_36 : decode cX2_heirByComparison 36 = .ok (.checkcast 64, 3) := dk_192 0 64 (dk_at dksX2_heirByComparison_1 15 rfl rfl)
theorem dX2_heirByComparison_39 : decode cX2_heirByComparison 39 = .ok (.astore 5, 2) := dk_58 5 (dk_at dksX2_heirByComparison_1 18 rfl rfl)
theorem dX2_heirByComparison_41 : decode cX2_heirByComparison 41 = .ok (.aload 5, 2) := dk_25 5 (dk_at dksX2_heirByComparison_1 20 rfl rfl)
theorem dX2_heirByComparison_43 : decode cX2_heirByComparison 43 = .ok (.aload_n 1, 1) := dk_43 (dk_at dksX2_heirByComparison_1 22 rfl rfl)
theorem dX2_heirByComparison_44 : decode cX2_heirByComparison 44 = .ok (.if_acmp .eq 27, 3) := dk_165 0 27 (dk_at dksX2_heirByComparison_2 0 rfl rfl)
theorem dX2_heirByComparison_47 : decode cX2_heirByComparison 47 = .ok (.aload 5, 2) := dk_25 5 (dk_at dksX2_heirByComparison_2 3 rfl rfl)
theorem dX2_heirByComparison_49 : decode cX2_heirByComparison 49 = .ok (.getfield 82, 3) := dk_180 0 82 (dk_at dksX2_heirByComparison_2 5 rfl rfl)
theorem dX2_heirByComparison_52 : decode cX2_heirByComparison 52 = .ok (.ifCond .eq 19, 3) := dk_153 0 19 (dk_at dksX2_heirByComparison_2 8 rfl rfl)
theorem dX2_heirByComparison_55 : decode cX2_heirByComparison 55 = .ok (.aload 5, 2) := dk_25 5 (dk_at dksX2_heirByComparison_2 11 rfl rfl)
theorem dX2_heirByComparison_57 : decode cX2_heirByComparison 57 = .ok (.invokevirtual 188, 3) := dk_182 0 188 (dk_at dksX2_heirByComparison_2 13 rfl rfl)
theorem dX2_heirByComparison_60 : decode cX2_heirByComparison 60 = .ok (.aload_n 1, 1) := dk_43 (dk_at dksX2_heirByComparison_2 16 rfl rfl)
theorem dX2_heirByComparison_61 : decode cX2_heirByComparison 61 = .ok (.invokevirtual 188, 3) := dk_182 0 188 (dk_at dksX2_heirByComparison_2 17 rfl rfl)
theorem dX2_heirByComparison_64 : decode cX2_heirByComparison 64 = .ok (.if_acmp .ne 7, 3) := dk_166 0 7 (dk_at dksX2_heirByComparison_2 20 rfl rfl)
theorem dX2_heirByComparison_67 : decode cX2_heirByComparison 67 = .ok (.iconst 1, 1) := dk_4 (dk_at dksX2_heirByComparison_2 23 rfl rfl)
theorem dX2_heirByComparison_68 : decode cX2_heirByComparison 68 = .ok (.goto 4, 3) := dk_167 0 4 (dk_at dksX2_heirByComparison_3 0 rfl rfl)
theorem dX2_heirByComparison_71 : decode cX2_heirByComparison 71 = .ok (.iconst 0, 1) := dk_3 (dk_at dksX2_heirByComparison_3 3 rfl rfl)
theorem dX2_heirByComparison_72 : decode cX2_heirByComparison 72 = .ok (.istore 6, 2) := dk_54 6 (dk_at dksX2_heirByComparison_3 4 rfl rfl)
theorem dX2_heirByComparison_74 : decode cX2_heirByComparison 74 = .ok (.iload 6, 2) := dk_21 6 (dk_at dksX2_heirByComparison_3 6 rfl rfl)
theorem dX2_heirByComparison_76 : decode cX2_heirByComparison 76 = .ok (.ifCond .eq 24, 3) := dk_153 0 24 (dk_at dksX2_heirByComparison_3 8 rfl rfl)
theorem dX2_heirByComparison_79 : decode cX2_heirByComparison 79 = .ok (.aload_n 3, 1) := dk_45 (dk_at dksX2_heirByComparison_3 11 rfl rfl)
theorem dX2_heirByComparison_80 : decode cX2_heirByComparison 80 = .ok (.ifnull 15, 3) := dk_198 0 15 (dk_at dksX2_heirByComparison_3 12 rfl rfl)
theorem dX2_heirByComparison_83 : decode cX2_heirByComparison 83 = .ok (.aload_n 2, 1) := dk_44 (dk_at dksX2_heirByComparison_3 15 rfl rfl)
theorem dX2_heirByComparison_84 : decode cX2_heirByComparison 84 = .ok (.aload 5, 2) := dk_25 5 (dk_at dksX2_heirByComparison_3 16 rfl rfl)
theorem dX2_heirByComparison_86 : decode cX2_heirByComparison 86 = .ok (.aload_n 3, 1) := dk_45 (dk_at dksX2_heirByComparison_3 18 rfl rfl)
theorem dX2_heirByComparison_87 : decode cX2_heirByComparison 87 = .ok (.invokeinterface 199 3, 5) := by decide +kernel
theorem dX2_heirByComparison_92 : decode cX2_heirByComparison 92 = .ok (.ifCond .eq 8, 3) := dk_153 0 8 (dk_at dksX2_heirByComparison_4 0 rfl rfl)
theorem dX2_heirByComparison_95 : decode cX2_heirByComparison 95 = .ok (.aload 5, 2) := dk_25 5 (dk_at dksX2_heirByComparison_4 3 rfl rfl)
theorem dX2_heirByComparison_97 : decode cX2_heirByComparison 97 = .ok (.goto 4, 3) := dk_167 0 4 (dk_at dksX2_heirByComparison_4 5 rfl rfl)
theorem dX2_heirByComparison_100 : decode cX2_heirByComparison 100 = .ok (.aload_n 3, 1) := dk_45 (dk_at dksX2_heirByComparison_4 8 rfl rfl)
theorem dX2_heirByComparison_101 : decode cX2_heirByComparison 101 = .ok (.astore_n 3, 1) := dk_78 (dk_at dksX2_heirByComparison_4 9 rfl rfl)
theorem dX2_heirByComparison_102 : decode cX2_heirByComparison 102 = .ok (.goto (-83), 3) := dk_167 255 173 (dk_at dksX2_heirByComparison_4 10 rfl rfl)
theorem dX2_heirByComparison_105 : decode cX2_heirByComparison 105 = .ok (.aload_n 3, 1) := dk_45 (dk_at dksX2_heirByComparison_4 13 rfl rfl)
theorem dX2_heirByComparison_106 : decode cX2_heirByComparison 106 = .ok (.areturn, 1) := dk_176 (dk_at dksX2_heirByComparison_4 14 rfl rfl)
def dkwX2_lambda_heirByComparison_6_1 : List UInt8 := [154, 0, 16, 42, 44, 45, 182, 0, 192, 153, 0, 7, 4, 167, 0, 4, 3, 172]
abbrev dktX2_lambda_heirByComparison_6_1 : List UInt8 := dkwX2_lambda_heirByComparison_6_1 ++ []
def dkwX2_lambda_heirByComparison_6_0 : List UInt8 := [42, 43, 45, 182, 1, 30, 42, 43, 44, 182, 1, 30, 100, 54, 4, 21, 4, 157, 0, 17, 21, 4]
abbrev dktX2_lambda_heirByComparison_6_0 : List UInt8 := dkwX2_lambda_heirByComparison_6_0 ++ dktX2_lambda_heirByComparison_6_1
theorem dksX2_lambda_heirByComparison_6_0 : cX2_lambda_heirByComparison_6.data.toList.drop 0 = dktX2_lambda_heirByComparison_6_0 := by decide +kernel
theorem dksX2_lambda_heirByComparison_6_1 : cX2_lambda_heirByComparison_6.data.toList.drop 22 = dktX2_lambda_heirByComparison_6_1 := dk_seg dksX2_lambda_heirByComparison_6_0 22 rfl rfl
theorem dX2_lambda_heirByComparison_6_0 : decode cX2_lambda_heirByComparison_6 0 = .ok (.aload_n 0, 1) := dk_42 (dk_at dksX2_lambda_heirByComparison_6_0 0 rfl rfl)
theorem dX2_lambda_heirByComparison_6_1 : decode cX2_lambda_heirByComparison_6 1 = .ok (.aload_n 1, 1) := dk_43 (dk_at dksX2_lambda_heirByComparison_6_0 1 rfl rfl)
theorem dX2_lambda_heirByComparison_6_2 : decode cX2_lambda_heirByComparison_6 2 = .ok (.aload_n 3, 1) := dk_45 (dk_at dksX2_lambda_heirByComparison_6_0 2 rfl rfl)
theorem dX2_lambda_heirByComparison_6_3 : decode cX2_lambda_heirByComparison_6 3 = .ok (.invokevirtual 286, 3) := dk_182 1 30 (dk_at dksX2_lambda_heirByComparison_6_0 3 rfl rfl)
theorem dX2_lambda_heirByComparison_6_6 : decode cX2_lambda_heirByComparison_6 6 = .ok (.aload_n 0, 1) := dk_42 (dk_at dksX2_lambda_heirByComparison_6_0 6 rfl rfl)
theorem dX2_lambda_heirByComparison_6_7 : decode cX2_lambda_heirByComparison_6 7 = .ok (.aload_n 1, 1) := dk_43 (dk_at dksX2_lambda_heirByComparison_6_0 7 rfl rfl)
theorem dX2_lambda_heirByComparison_6_8 : decode cX2_lambda_heirByComparison_6 8 = .ok (.aload_n 2, 1) := dk_44 (dk_at dksX2_lambda_heirByComparison_6_0 8 rfl rfl)
theorem dX2_lambda_heirByComparison_6_9 : decode cX2_lambda_heirByComparison_6 9 = .ok (.invokevirtual 286, 3) := dk_182 1 30 (dk_at dksX2_lambda_heirByComparison_6_0 9 rfl rfl)
theorem dX2_lambda_heirByComparison_6_12 : decode cX2_lambda_heirByComparison_6 12 = .ok (.isub, 1) := dk_100 (dk_at dksX2_lambda_heirByComparison_6_0 12 rfl rfl)
theorem dX2_lambda_heirByComparison_6_13 : decode cX2_lambda_heirByComparison_6 13 = .ok (.istore 4, 2) := dk_54 4 (dk_at dksX2_lambda_heirByComparison_6_0 13 rfl rfl)
theorem dX2_lambda_heirByComparison_6_15 : decode cX2_lambda_heirByComparison_6 15 = .ok (.iload 4, 2) := dk_21 4 (dk_at dksX2_lambda_heirByComparison_6_0 15 rfl rfl)
theorem dX2_lambda_heirByComparison_6_17 : decode cX2_lambda_heirByComparison_6 17 = .ok (.ifCond .gt 17, 3) := dk_157 0 17 (dk_at dksX2_lambda_heirByComparison_6_0 17 rfl rfl)
theorem dX2_lambda_heirByComparison_6_20 : decode cX2_lambda_heirByComparison_6 20 = .ok (.iload 4, 2) := dk_21 4 (dk_at dksX2_lambda_heirByComparison_6_0 20 rfl rfl)
theorem dX2_lambda_heirByComparison_6_22 : decode cX2_lambda_heirByComparison_6 22 = .ok (.ifCond .ne 16, 3) := dk_154 0 16 (dk_at dksX2_lambda_heirByComparison_6_1 0 rfl rfl)
theorem dX2_lambda_heirByComparison_6_25 : decode cX2_lambda_heirByComparison_6 25 = .ok (.aload_n 0, 1) := dk_42 (dk_at dksX2_lambda_heirByComparison_6_1 3 rfl rfl)
theorem dX2_lambda_heirByComparison_6_26 : decode cX2_lambda_heirByComparison_6 26 = .ok (.aload_n 2, 1) := dk_44 (dk_at dksX2_lambda_heirByComparison_6_1 4 rfl rfl)
theorem dX2_lambda_heirByComparison_6_27 : decode cX2_lambda_heirByComparison_6 27 = .ok (.aload_n 3, 1) := dk_45 (dk_at dksX2_lambda_heirByComparison_6_1 5 rfl rfl)
theorem dX2_lambda_heirByComparison_6_28 : decode cX2_lambda_heirByComparison_6 28 = .ok (.invokevirtual 192, 3) := dk_182 0 192 (dk_at dksX2_lambda_heirByComparison_6_1 6 rfl rfl)
theorem dX2_lambda_heirByComparison_6_31 : decode cX2_lambda_heirByComparison_6 31 = .ok (.ifCond .eq 7, 3) := dk_153 0 7 (dk_at dksX2_lambda_heirByComparison_6_1 9 rfl rfl)
theorem dX2_lambda_heirByComparison_6_34 : decode cX2_lambda_heirByComparison_6 34 = .ok (.iconst 1, 1) := dk_4 (dk_at dksX2_lambda_heirByComparison_6_1 12 rfl rfl)
theorem dX2_lambda_heirByComparison_6_35 : decode cX2_lambda_heirByComparison_6 35 = .ok (.goto 4, 3) := dk_167 0 4 (dk_at dksX2_lambda_heirByComparison_6_1 13 rfl rfl)
theorem dX2_lambda_heirByComparison_6_38 : decode cX2_lambda_heirByComparison_6 38 = .ok (.iconst 0, 1) := dk_3 (dk_at dksX2_lambda_heirByComparison_6_1 16 rfl rfl)
theorem dX2_lambda_heirByComparison_6_39 : decode cX2_lambda_heirByComparison_6 39 = .ok (.ireturn, 1) := dk_172 (dk_at dksX2_lambda_heirByComparison_6_1 17 rfl rfl)
def dkwX2_ascent_0 : List UInt8 := [43, 182, 0, 176, 42, 43, 44, 182, 0, 172, 182, 0, 176, 100, 172]
abbrev dktX2_ascent_0 : List UInt8 := dkwX2_ascent_0 ++ []
theorem dksX2_ascent_0 : cX2_ascent.data.toList.drop 0 = dktX2_ascent_0 := by decide +kernel
theorem dX2_ascent_0 : decode cX2_ascent 0 = .ok (.aload_n 1, 1) := dk_43 (dk_at dksX2_ascent_0 0 rfl rfl)
theorem dX2_ascent_1 : decode cX2_ascent 1 = .ok (.invokevirtual 176, 3) := dk_182 0 176 (dk_at dksX2_ascent_0 1 rfl rfl)
theorem dX2_ascent_4 : decode cX2_ascent 4 = .ok (.aload_n 0, 1) := dk_42 (dk_at dksX2_ascent_0 4 rfl rfl)
theorem dX2_ascent_5 : decode cX2_ascent 5 = .ok (.aload_n 1, 1) := dk_43 (dk_at dksX2_ascent_0 5 rfl rfl)
theorem dX2_ascent_6 : decode cX2_ascent 6 = .ok (.aload_n 2, 1) := dk_44 (dk_at dksX2_ascent_0 6 rfl rfl)
theorem dX2_ascent_7 : decode cX2_ascent 7 = .ok (.invokevirtual 172, 3) := dk_182 0 172 (dk_at dksX2_ascent_0 7 rfl rfl)
theorem dX2_ascent_10 : decode cX2_ascent 10 = .ok (.invokevirtual 176, 3) := dk_182 0 176 (dk_at dksX2_ascent_0 10 rfl rfl)
theorem dX2_ascent_13 : decode cX2_ascent 13 = .ok (.isub, 1) := dk_100 (dk_at dksX2_ascent_0 13 rfl rfl)
theorem dX2_ascent_14 : decode cX2_ascent 14 = .ok (.ireturn, 1) := dk_172 (dk_at dksX2_ascent_0 14 rfl rfl)
def dkwX2_commonAncestor_1 : List UInt8 := [167, 255, 234, 45, 176]
abbrev dktX2_commonAncestor_1 : List UInt8 := dkwX2_commonAncestor_1 ++ []
def dkwX2_commonAncestor_0 : List UInt8 := [43, 78, 45, 198, 0, 24, 45, 44, 165, 0, 19, 45, 44, 182, 0, 168, 154, 0, 11, 45, 180, 0, 66, 78]
abbrev dktX2_commonAncestor_0 : List UInt8 := dkwX2_commonAncestor_0 ++ dktX2_commonAncestor_1
theorem dksX2_commonAncestor_0 : cX2_commonAncestor.data.toList.drop 0 = dktX2_commonAncestor_0 := by decide +kernel
theorem dksX2_commonAncestor_1 : cX2_commonAncestor.data.toList.drop 24 = dktX2_commonAncestor_1 := dk_seg dksX2_commonAncestor_0 24 rfl rfl
theorem dX2_commonAncestor_0 : decode cX2_commonAncestor 0 = .ok (.aload_n 1, 1) := dk_43 (dk_at dksX2_commonAncestor_0 0 rfl rfl)
theorem dX2_commonAncestor_1 : decode cX2_commonAncestor 1 = .ok (.astore_n 3, 1) := dk_78 (dk_at dksX2_commonAncestor_0 1 rfl rfl)
theorem dX2_commonAncestor_2 : decode cX2_commonAncestor 2 = .ok (.aload_n 3, 1) := dk_45 (dk_at dksX2_commonAncestor_0 2 rfl rfl)
theorem dX2_commonAncestor_3 : decode cX2_commonAncestor 3 = .ok (.ifnull 24, 3) := dk_198 0 24 (dk_at dksX2_commonAncestor_0 3 rfl rfl)
theorem dX2_commonAncestor_6 : decode cX2_commonAncestor 6 = .ok (.aload_n 3, 1) := dk_45 (dk_at dksX2_commonAncestor_0 6 rfl rfl)
theorem dX2_commonAncestor_7 : decode cX2_commonAncestor 7 = .ok (.aload_n 2, 1) := dk_44 (dk_at dksX2_commonAncestor_0 7 rfl rfl)
theorem dX2_commonAncestor_8 : decode cX2_commonAncestor 8 = .ok (.if_acmp .eq 19, 3) := dk_165 0 19 (dk_at dksX2_commonAncestor_0 8 rfl rfl)
theorem dX2_commonAncestor_11 : decode cX2_commonAncestor 11 = .ok (.aload_n 3, 1) := dk_45 (dk_at dksX2_commonAncestor_0 11 rfl rfl)
theorem dX2_commonAncestor_12 : decode cX2_commonAncestor 12 = .ok (.aload_n 2, 1) := dk_44 (dk_at dksX2_commonAncestor_0 12 rfl rfl)
theorem dX2_commonAncestor_13 : decode cX2_commonAncestor 13 = .ok (.invokevirtual 168, 3) := dk_182 0 168 (dk_at dksX2_commonAncestor_0 13 rfl rfl)
theorem dX2_commonAncestor_16 : decode cX2_commonAncestor 16 = .ok (.ifCond .ne 11, 3) := dk_154 0 11 (dk_at dksX2_commonAncestor_0 16 rfl rfl)
theorem dX2_commonAncestor_19 : decode cX2_commonAncestor 19 = .ok (.aload_n 3, 1) := dk_45 (dk_at dksX2_commonAncestor_0 19 rfl rfl)
theorem dX2_commonAncestor_20 : decode cX2_commonAncestor 20 = .ok (.getfield 66, 3) := dk_180 0 66 (dk_at dksX2_commonAncestor_0 20 rfl rfl)
theorem dX2_commonAncestor_23 : decode cX2_commonAncestor 23 = .ok (.astore_n 3, 1) := dk_78 (dk_at dksX2_commonAncestor_0 23 rfl rfl)
theorem dX2_commonAncestor_24 : decode cX2_commonAncestor 24 = .ok (.goto (-22), 3) := dk_167 255 234 (dk_at dksX2_commonAncestor_1 0 rfl rfl)
theorem dX2_commonAncestor_27 : decode cX2_commonAncestor 27 = .ok (.aload_n 3, 1) := dk_45 (dk_at dksX2_commonAncestor_1 3 rfl rfl)
theorem dX2_commonAncestor_28 : decode cX2_commonAncestor 28 = .ok (.areturn, 1) := dk_176 (dk_at dksX2_commonAncestor_1 4 rfl rfl)
def dkwX2_succeedsBefore_2 : List UInt8 := [180, 0, 70, 162, 0, 7, 4, 167, 0, 4, 3, 172]
abbrev dktX2_succeedsBefore_2 : List UInt8 := dkwX2_succeedsBefore_2 ++ []
def dkwX2_succeedsBefore_1 : List UInt8 := [166, 0, 7, 4, 167, 0, 4, 3, 172, 43, 45, 182, 0, 185, 180, 0, 70, 44, 45, 182, 0, 185]
abbrev dktX2_succeedsBefore_1 : List UInt8 := dkwX2_succeedsBefore_1 ++ dktX2_succeedsBefore_2
def dkwX2_succeedsBefore_0 : List UInt8 := [42, 43, 44, 182, 0, 172, 78, 45, 43, 165, 0, 8, 45, 44, 166, 0, 19, 43, 44, 165, 0, 12, 45, 43]
abbrev dktX2_succeedsBefore_0 : List UInt8 := dkwX2_succeedsBefore_0 ++ dktX2_succeedsBefore_1
theorem dksX2_succeedsBefore_0 : cX2_succeedsBefore.data.toList.drop 0 = dktX2_succeedsBefore_0 := by decide +kernel
theorem dksX2_succeedsBefore_1 : cX2_succeedsBefore.data.toList.drop 24 = dktX2_succeedsBefore_1 := dk_seg dksX2_succeedsBefore_0 24 rfl rfl
theorem dksX2_succeedsBefore_2 : cX2_succeedsBefore.data.toList.drop 46 = dktX2_succeedsBefore_2 := dk_seg dksX2_succeedsBefore_1 22 rfl rfl
theorem dX2_succeedsBefore_0 : decode cX2_succeedsBefore 0 = .ok (.aload_n 0, 1) := dk_42 (dk_at dksX2_succeedsBefore_0 0 rfl rfl)
theorem dX2_succeedsBefore_1 : decode cX2_succeedsBefore 1 = .ok (.aload_n 1, 1) := dk_43 (dk_at dksX2_succeedsBefore_0 1 rfl rfl)
theorem dX2_succeedsBefore_2 : decode cX2_succeedsBefore 2 = .ok (.aload_n 2, 1) := dk_44 (dk_at dksX2_succeedsBefore_0 2 rfl rfl)
theorem dX2_succeedsBefore_3 : decode cX2_succeedsBefore 3 = .ok (.invokevirtual 172, 3) := dk_182 0 172 (dk_at dksX2_succeedsBefore_0 3 rfl rfl)
theorem dX2_succeedsBefore_6 : decode cX2_succeedsBefore 6 = .ok (.astore_n 3, 1) := dk_78 (dk_at dksX2_succeedsBefore_0 6 rfl rfl)
theorem dX2_succeedsBefore_7 : decode cX2_succeedsBefore 7 = .ok (.aload_n 3, 1) := dk_45 (dk_at dksX2_succeedsBefore_0 7 rfl rfl)
theorem dX2_succeedsBefore_8 : decode cX2_succeedsBefore 8 = .ok (.aload_n 1, 1) := dk_43 (dk_at dksX2_succeedsBefore_0 8 rfl rfl)
theorem dX2_succeedsBefore_9 : decode cX2_succeedsBefore 9 = .ok (.if_acmp .eq 8, 3) := dk_165 0 8 (dk_at dksX2_succeedsBefore_0 9 rfl rfl)
theorem dX2_succeedsBefore_12 : decode cX2_succeedsBefore 12 = .ok (.aload_n 3, 1) := dk_45 (dk_at dksX2_succeedsBefore_0 12 rfl rfl)
theorem dX2_succeedsBefore_13 : decode cX2_succeedsBefore 13 = .ok (.aload_n 2, 1) := dk_44 (dk_at dksX2_succeedsBefore_0 13 rfl rfl)
theorem dX2_succeedsBefore_14 : decode cX2_succeedsBefore 14 = .ok (.if_acmp .ne 19, 3) := dk_166 0 19 (dk_at dksX2_succeedsBefore_0 14 rfl rfl)
theorem dX2_succeedsBefore_17 : decode cX2_succeedsBefore 17 = .ok (.aload_n 1, 1) := dk_43 (dk_at dksX2_succeedsBefore_0 17 rfl rfl)
theorem dX2_succeedsBefore_18 : decode cX2_succeedsBefore 18 = .ok (.aload_n 2, 1) := dk_44 (dk_at dksX2_succeedsBefore_0 18 rfl rfl)
theorem dX2_succeedsBefore_19 : decode cX2_succeedsBefore 19 = .ok (.if_acmp .eq 12, 3) := dk_165 0 12 (dk_at dksX2_succeedsBefore_0 19 rfl rfl)
theorem dX2_succeedsBefore_22 : decode cX2_succeedsBefore 22 = .ok (.aload_n 3, 1) := dk_45 (dk_at dksX2_succeedsBefore_0 22 rfl rfl)
theorem dX2_succeedsBefore_23 : decode cX2_succeedsBefore 23 = .ok (.aload_n 1, 1) := dk_43 (dk_at dksX2_succeedsBefore_0 23 rfl rfl)
theorem dX2_succeedsBefore_24 : decode cX2_succeedsBefore 24 = .ok (.if_acmp .ne 7, 3) := dk_166 0 7 (dk_at dksX2_succeedsBefore_1 0 rfl rfl)
theorem dX2_succeedsBefore_27 : decode cX2_succeedsBefore 27 = .ok (.iconst 1, 1) := dk_4 (dk_at dksX2_succeedsBefore_1 3 rfl rfl)
theorem dX2_succeedsBefore_28 : decode cX2_succeedsBefore 28 = .ok (.goto 4, 3) := dk_167 0 4 (dk_at dksX2_succeedsBefore_1 4 rfl rfl)
theorem dX2_succeedsBefore_31 : decode cX2_succeedsBefore 31 = .ok (.iconst 0, 1) := dk_3 (dk_at dksX2_succeedsBefore_1 7 rfl rfl)
theorem dX2_succeedsBefore_32 : decode cX2_succeedsBefore 32 = .ok (.ireturn, 1) := dk_172 (dk_at dksX2_succeedsBefore_1 8 rfl rfl)
theorem dX2_succeedsBefore_33 : decode cX2_succeedsBefore 33 = .ok (.aload_n 1, 1) := dk_43 (dk_at dksX2_succeedsBefore_1 9 rfl rfl)
theorem dX2_succeedsBefore_34 : decode cX2_succeedsBefore 34 = .ok (.aload_n 3, 1) := dk_45 (dk_at dksX2_succeedsBefore_1 10 rfl rfl)
theorem dX2_succeedsBefore_35 : decode cX2_succeedsBefore 35 = .ok (.invokevirtual 185, 3) := dk_182 0 185 (dk_at dksX2_succeedsBefore_1 11 rfl rfl)
theorem dX2_succeedsBefore_38 : decode cX2_succeedsBefore 38 = .ok (.getfield 70, 3) := dk_180 0 70 (dk_at dksX2_succeedsBefore_1 14 rfl rfl)
theorem dX2_succeedsBefore_41 : decode cX2_succeedsBefore 41 = .ok (.aload_n 2, 1) := dk_44 (dk_at dksX2_succeedsBefore_1 17 rfl rfl)
theorem dX2_succeedsBefore_42 : decode cX2_succeedsBefore 42 = .ok (.aload_n 3, 1) := dk_45 (dk_at dksX2_succeedsBefore_1 18 rfl rfl)
theorem dX2_succeedsBefore_43 : decode cX2_succeedsBefore 43 = .ok (.invokevirtual 185, 3) := dk_182 0 185 (dk_at dksX2_succeedsBefore_1 19 rfl rfl)
theorem dX2_succeedsBefore_46 : decode cX2_succeedsBefore 46 = .ok (.getfield 70, 3) := dk_180 0 70 (dk_at dksX2_succeedsBefore_2 0 rfl rfl)
theorem dX2_succeedsBefore_49 : decode cX2_succeedsBefore 49 = .ok (.if_icmp .ge 7, 3) := dk_162 0 7 (dk_at dksX2_succeedsBefore_2 3 rfl rfl)
theorem dX2_succeedsBefore_52 : decode cX2_succeedsBefore 52 = .ok (.iconst 1, 1) := dk_4 (dk_at dksX2_succeedsBefore_2 6 rfl rfl)
theorem dX2_succeedsBefore_53 : decode cX2_succeedsBefore 53 = .ok (.goto 4, 3) := dk_167 0 4 (dk_at dksX2_succeedsBefore_2 7 rfl rfl)
theorem dX2_succeedsBefore_56 : decode cX2_succeedsBefore 56 = .ok (.iconst 0, 1) := dk_3 (dk_at dksX2_succeedsBefore_2 10 rfl rfl)
theorem dX2_succeedsBefore_57 : decode cX2_succeedsBefore 57 = .ok (.ireturn, 1) := dk_172 (dk_at dksX2_succeedsBefore_2 11 rfl rfl)
def dkwX2_hasOneOfEachKind_2 : List UInt8 := [167, 0, 4, 3, 61, 132, 3, 1, 167, 255, 204, 28, 172]
abbrev dktX2_hasOneOfEachKind_2 : List UInt8 := dkwX2_hasOneOfEachKind_2 ++ []
def dkwX2_hasOneOfEachKind_1 : List UInt8 := [153, 0, 27, 42, 43, 21, 4, 186, 1, 11, 0, 0, 42, 180, 0, 38, 182, 0, 153, 4, 163, 0, 7, 4]
abbrev dktX2_hasOneOfEachKind_1 : List UInt8 := dkwX2_hasOneOfEachKind_1 ++ dktX2_hasOneOfEachKind_2
def dkwX2_hasOneOfEachKind_0 : List UInt8 := [4, 61, 3, 62, 29, 19, 1, 0, 182, 1, 2, 162, 0, 48, 19, 1, 0, 29, 182, 1, 7, 54, 4, 28]
abbrev dktX2_hasOneOfEachKind_0 : List UInt8 := dkwX2_hasOneOfEachKind_0 ++ dktX2_hasOneOfEachKind_1
theorem dksX2_hasOneOfEachKind_0 : cX2_hasOneOfEachKind.data.toList.drop 0 = dktX2_hasOneOfEachKind_0 := by decide +kernel
theorem dksX2_hasOneOfEachKind_1 : cX2_hasOneOfEachKind.data.toList.drop 24 = dktX2_hasOneOfEachKind_1 := dk_seg dksX2_hasOneOfEachKind_0 24 rfl rfl
theorem dksX2_hasOneOfEachKind_2 : cX2_hasOneOfEachKind.data.toList.drop 48 = dktX2_hasOneOfEachKind_2 := dk_seg dksX2_hasOneOfEachKind_1 24 rfl rfl
theorem dX2_hasOneOfEachKind_0 : decode cX2_hasOneOfEachKind 0 = .ok (.iconst 1, 1) := dk_4 (dk_at dksX2_hasOneOfEachKind_0 0 rfl rfl)
theorem dX2_hasOneOfEachKind_1 : decode cX2_hasOneOfEachKind 1 = .ok (.istore_n 2, 1) := dk_61 (dk_at dksX2_hasOneOfEachKind_0 1 rfl rfl)
theorem dX2_hasOneOfEachKind_2 : decode cX2_hasOneOfEachKind 2 = .ok (.iconst 0, 1) := dk_3 (dk_at dksX2_hasOneOfEachKind_0 2 rfl rfl)
theorem dX2_hasOneOfEachKind_3 : decode cX2_hasOneOfEachKind 3 = .ok (.istore_n 3, 1) := dk_62 (dk_at dksX2_hasOneOfEachKind_0 3 rfl rfl)
theorem dX2_hasOneOfEachKind_4 : decode cX2_hasOneOfEachKind 4 = .ok (.iload_n 3, 1) := dk_29 (dk_at dksX2_hasOneOfEachKind_0 4 rfl rfl)
theorem dX2_hasOneOfEachKind_5 : decode cX2_hasOneOfEachKind 5 = .ok (.ldc_w 256, 3) := dk_19 1 0 (dk_at dksX2_hasOneOfEachKind_0 5 rfl rfl)
theorem dX2_hasOneOfEachKind_8 : decode cX2_hasOneOfEachKind 8 = .ok (.invokevirtual 258, 3) := dk_182 1 2 (dk_at dksX2_hasOneOfEachKind_0 8 rfl rfl)
theorem dX2_hasOneOfEachKind_11 : decode cX2_hasOneOfEachKind 11 = .ok (.if_icmp .ge 48, 3) := dk_162 0 48 (dk_at dksX2_hasOneOfEachKind_0 11 rfl rfl)
theorem dX2_hasOneOfEachKind_14 : decode cX2_hasOneOfEachKind 14 = .ok (.ldc_w 256, 3) := dk_19 1 0 (dk_at dksX2_hasOneOfEachKind_0 14 rfl rfl)
theorem dX2_hasOneOfEachKind_17 : decode cX2_hasOneOfEachKind 17 = .ok (.iload_n 3, 1) := dk_29 (dk_at dksX2_hasOneOfEachKind_0 17 rfl rfl)
theorem dX2_hasOneOfEachKind_18 : decode cX2_hasOneOfEachKind 18 = .ok (.invokevirtual 263, 3) := dk_182 1 7 (dk_at dksX2_hasOneOfEachKind_0 18 rfl rfl)
theorem dX2_hasOneOfEachKind_21 : decode cX2_hasOneOfEachKind 21 = .ok (.istore 4, 2) := dk_54 4 (dk_at dksX2_hasOneOfEachKind_0 21 rfl rfl)
theorem dX2_hasOneOfEachKind_23 : decode cX2_hasOneOfEachKind 23 = .ok (.iload_n 2, 1) := dk_28 (dk_at dksX2_hasOneOfEachKind_0 23 rfl rfl)
theorem dX2_hasOneOfEachKind_24 : decode cX2_hasOneOfEachKind 24 = .ok (.ifCond .eq 27, 3) := dk_153 0 27 (dk_at dksX2_hasOneOfEachKind_1 0 rfl rfl)
theorem dX2_hasOneOfEachKind_27 : decode cX2_hasOneOfEachKind 27 = .ok (.aload_n 0, 1) := dk_42 (dk_at dksX2_hasOneOfEachKind_1 3 rfl rfl)
theorem dX2_hasOneOfEachKind_28 : decode cX2_hasOneOfEachKind 28 = .ok (.aload_n 1, 1) := dk_43 (dk_at dksX2_hasOneOfEachKind_1 4 rfl rfl)
theorem dX2_hasOneOfEachKind_29 : decode cX2_hasOneOfEachKind 29 = .ok (.iload 4, 2) := dk_21 4 (dk_at dksX2_hasOneOfEachKind_1 5 rfl rfl)
theorem dX2_hasOneOfEachKind_31 : decode cX2_hasOneOfEachKind 31 = .ok (.invokedynamic 267, 5) := by decide +kernel
theorem dX2_hasOneOfEachKind_36 : decode cX2_hasOneOfEachKind 36 = .ok (.aload_n 0, 1) := dk_42 (dk_at dksX2_hasOneOfEachKind_1 12 rfl rfl)
theorem dX2_hasOneOfEachKind_37 : decode cX2_hasOneOfEachKind 37 = .ok (.getfield 38, 3) := dk_180 0 38 (dk_at dksX2_hasOneOfEachKind_1 13 rfl rfl)
theorem dX2_hasOneOfEachKind_40 : decode cX2_hasOneOfEachKind 40 = .ok (.invokevirtual 153, 3) := dk_182 0 153 (dk_at dksX2_hasOneOfEachKind_1 16 rfl rfl)
theorem dX2_hasOneOfEachKind_43 : decode cX2_hasOneOfEachKind 43 = .ok (.iconst 1, 1) := dk_4 (dk_at dksX2_hasOneOfEachKind_1 19 rfl rfl)
theorem dX2_hasOneOfEachKind_44 : decode cX2_hasOneOfEachKind 44 = .ok (.if_icmp .gt 7, 3) := dk_163 0 7 (dk_at dksX2_hasOneOfEachKind_1 20 rfl rfl)
theorem dX2_hasOneOfEachKind_47 : decode cX2_hasOneOfEachKind 47 = .ok (.iconst 1, 1) := dk_4 (dk_at dksX2_hasOneOfEachKind_1 23 rfl rfl)
theorem dX2_hasOneOfEachKind_48 : decode cX2_hasOneOfEachKind 48 = .ok (.goto 4, 3) := dk_167 0 4 (dk_at dksX2_hasOneOfEachKind_2 0 rfl rfl)
theorem dX2_hasOneOfEachKind_51 : decode cX2_hasOneOfEachKind 51 = .ok (.iconst 0, 1) := dk_3 (dk_at dksX2_hasOneOfEachKind_2 3 rfl rfl)
theorem dX2_hasOneOfEachKind_52 : decode cX2_hasOneOfEachKind 52 = .ok (.istore_n 2, 1) := dk_61 (dk_at dksX2_hasOneOfEachKind_2 4 rfl rfl)
theorem dX2_hasOneOfEachKind_53 : decode cX2_hasOneOfEachKind 53 = .ok (.iinc 3 1, 3) := dk_132 3 1 (dk_at dksX2_hasOneOfEachKind_2 5 rfl rfl)
theorem dX2_hasOneOfEachKind_56 : decode cX2_hasOneOfEachKind 56 = .ok (.goto (-52), 3) := dk_167 255 204 (dk_at dksX2_hasOneOfEachKind_2 8 rfl rfl)
theorem dX2_hasOneOfEachKind_59 : decode cX2_hasOneOfEachKind 59 = .ok (.iload_n 2, 1) := dk_28 (dk_at dksX2_hasOneOfEachKind_2 11 rfl rfl)
theorem dX2_hasOneOfEachKind_60 : decode cX2_hasOneOfEachKind 60 = .ok (.ireturn, 1) := dk_172 (dk_at dksX2_hasOneOfEachKind_2 12 rfl rfl)
def dkwX2_lambda_hasOneOfEachKind_9_0 : List UInt8 := [44, 180, 0, 107, 42, 166, 0, 15, 44, 180, 0, 89, 27, 160, 0, 7, 4, 167, 0, 4, 3, 172]
abbrev dktX2_lambda_hasOneOfEachKind_9_0 : List UInt8 := dkwX2_lambda_hasOneOfEachKind_9_0 ++ []
theorem dksX2_lambda_hasOneOfEachKind_9_0 : cX2_lambda_hasOneOfEachKind_9.data.toList.drop 0 = dktX2_lambda_hasOneOfEachKind_9_0 := by decide +kernel
theorem dX2_lambda_hasOneOfEachKind_9_0 : decode cX2_lambda_hasOneOfEachKind_9 0 = .ok (.aload_n 2, 1) := dk_44 (dk_at dksX2_lambda_hasOneOfEachKind_9_0 0 rfl rfl)
theorem dX2_lambda_hasOneOfEachKind_9_1 : decode cX2_lambda_hasOneOfEachKind_9 1 = .ok (.getfield 107, 3) := dk_180 0 107 (dk_at dksX2_lambda_hasOneOfEachKind_9_0 1 rfl rfl)
theorem dX2_lambda_hasOneOfEachKind_9_4 : decode cX2_lambda_hasOneOfEachKind_9 4 = .ok (.aload_n 0, 1) := dk_42 (dk_at dksX2_lambda_hasOneOfEachKind_9_0 4 rfl rfl)
theorem dX2_lambda_hasOneOfEachKind_9_5 : decode cX2_lambda_hasOneOfEachKind_9 5 = .ok (.if_acmp .ne 15, 3) := dk_166 0 15 (dk_at dksX2_lambda_hasOneOfEachKind_9_0 5 rfl rfl)
theorem dX2_lambda_hasOneOfEachKind_9_8 : decode cX2_lambda_hasOneOfEachKind_9 8 = .ok (.aload_n 2, 1) := dk_44 (dk_at dksX2_lambda_hasOneOfEachKind_9_0 8 rfl rfl)
theorem dX2_lambda_hasOneOfEachKind_9_9 : decode cX2_lambda_hasOneOfEachKind_9 9 = .ok (.getfield 89, 3) := dk_180 0 89 (dk_at dksX2_lambda_hasOneOfEachKind_9_0 9 rfl rfl)
theorem dX2_lambda_hasOneOfEachKind_9_12 : decode cX2_lambda_hasOneOfEachKind_9 12 = .ok (.iload_n 1, 1) := dk_27 (dk_at dksX2_lambda_hasOneOfEachKind_9_0 12 rfl rfl)
theorem dX2_lambda_hasOneOfEachKind_9_13 : decode cX2_lambda_hasOneOfEachKind_9 13 = .ok (.if_icmp .ne 7, 3) := dk_160 0 7 (dk_at dksX2_lambda_hasOneOfEachKind_9_0 13 rfl rfl)
theorem dX2_lambda_hasOneOfEachKind_9_16 : decode cX2_lambda_hasOneOfEachKind_9 16 = .ok (.iconst 1, 1) := dk_4 (dk_at dksX2_lambda_hasOneOfEachKind_9_0 16 rfl rfl)
theorem dX2_lambda_hasOneOfEachKind_9_17 : decode cX2_lambda_hasOneOfEachKind_9 17 = .ok (.goto 4, 3) := dk_167 0 4 (dk_at dksX2_lambda_hasOneOfEachKind_9_0 17 rfl rfl)
theorem dX2_lambda_hasOneOfEachKind_9_20 : decode cX2_lambda_hasOneOfEachKind_9 20 = .ok (.iconst 0, 1) := dk_3 (dk_at dksX2_lambda_hasOneOfEachKind_9_0 20 rfl rfl)
theorem dX2_lambda_hasOneOfEachKind_9_21 : decode cX2_lambda_hasOneOfEachKind_9 21 = .ok (.ireturn, 1) := dk_172 (dk_at dksX2_lambda_hasOneOfEachKind_9_0 21 rfl rfl)
def dkwX2_distance_1 : List UInt8 := [5, 45, 182, 0, 176, 104, 100, 172]
abbrev dktX2_distance_1 : List UInt8 := dkwX2_distance_1 ++ []
def dkwX2_distance_0 : List UInt8 := [42, 43, 44, 182, 0, 172, 78, 45, 199, 0, 7, 2, 167, 0, 19, 43, 182, 0, 176, 44, 182, 0, 176, 96]
abbrev dktX2_distance_0 : List UInt8 := dkwX2_distance_0 ++ dktX2_distance_1
theorem dksX2_distance_0 : cX2_distance.data.toList.drop 0 = dktX2_distance_0 := by decide +kernel
theorem dksX2_distance_1 : cX2_distance.data.toList.drop 24 = dktX2_distance_1 := dk_seg dksX2_distance_0 24 rfl rfl
theorem dX2_distance_0 : decode cX2_distance 0 = .ok (.aload_n 0, 1) := dk_42 (dk_at dksX2_distance_0 0 rfl rfl)
theorem dX2_distance_1 : decode cX2_distance 1 = .ok (.aload_n 1, 1) := dk_43 (dk_at dksX2_distance_0 1 rfl rfl)
theorem dX2_distance_2 : decode cX2_distance 2 = .ok (.aload_n 2, 1) := dk_44 (dk_at dksX2_distance_0 2 rfl rfl)
theorem dX2_distance_3 : decode cX2_distance 3 = .ok (.invokevirtual 172, 3) := dk_182 0 172 (dk_at dksX2_distance_0 3 rfl rfl)
theorem dX2_distance_6 : decode cX2_distance 6 = .ok (.astore_n 3, 1) := dk_78 (dk_at dksX2_distance_0 6 rfl rfl)
theorem dX2_distance_7 : decode cX2_distance 7 = .ok (.aload_n 3, 1) := dk_45 (dk_at dksX2_distance_0 7 rfl rfl)
theorem dX2_distance_8 : decode cX2_distance 8 = .ok (.ifnonnull 7, 3) := dk_199 0 7 (dk_at dksX2_distance_0 8 rfl rfl)
theorem dX2_distance_11 : decode cX2_distance 11 = .ok (.iconst (-1), 1) := dk_2 (dk_at dksX2_distance_0 11 rfl rfl)
theorem dX2_distance_12 : decode cX2_distance 12 = .ok (.goto 19, 3) := dk_167 0 19 (dk_at dksX2_distance_0 12 rfl rfl)
theorem dX2_distance_15 : decode cX2_distance 15 = .ok (.aload_n 1, 1) := dk_43 (dk_at dksX2_distance_0 15 rfl rfl)
theorem dX2_distance_16 : decode cX2_distance 16 = .ok (.invokevirtual 176, 3) := dk_182 0 176 (dk_at dksX2_distance_0 16 rfl rfl)
theorem dX2_distance_19 : decode cX2_distance 19 = .ok (.aload_n 2, 1) := dk_44 (dk_at dksX2_distance_0 19 rfl rfl)
theorem dX2_distance_20 : decode cX2_distance 20 = .ok (.invokevirtual 176, 3) := dk_182 0 176 (dk_at dksX2_distance_0 20 rfl rfl)
theorem dX2_distance_23 : decode cX2_distance 23 = .ok (.iadd, 1) := dk_96 (dk_at dksX2_distance_0 23 rfl rfl)
theorem dX2_distance_24 : decode cX2_distance 24 = .ok (.iconst 2, 1) := dk_5 (dk_at dksX2_distance_1 0 rfl rfl)
theorem dX2_distance_25 : decode cX2_distance 25 = .ok (.aload_n 3, 1) := dk_45 (dk_at dksX2_distance_1 1 rfl rfl)
theorem dX2_distance_26 : decode cX2_distance 26 = .ok (.invokevirtual 176, 3) := dk_182 0 176 (dk_at dksX2_distance_1 2 rfl rfl)
theorem dX2_distance_29 : decode cX2_distance 29 = .ok (.imul, 1) := dk_104 (dk_at dksX2_distance_1 5 rfl rfl)
theorem dX2_distance_30 : decode cX2_distance 30 = .ok (.isub, 1) := dk_100 (dk_at dksX2_distance_1 6 rfl rfl)
theorem dX2_distance_31 : decode cX2_distance 31 = .ok (.ireturn, 1) := dk_172 (dk_at dksX2_distance_1 7 rfl rfl)
def dkwX2_distanceBySearch_8 : List UInt8 := [132, 8, 1, 167, 255, 166, 132, 6, 1, 167, 255, 133, 45, 44, 180, 0, 70, 46, 172]
abbrev dktX2_distanceBySearch_8 : List UInt8 := dkwX2_distanceBySearch_8 ++ []
def dkwX2_distanceBySearch_7 : List UInt8 := [21, 8, 45, 25, 7, 180, 0, 70, 46, 4, 96, 79, 25, 4, 21, 5, 21, 8, 79, 132, 5, 1]
abbrev dktX2_distanceBySearch_7 : List UInt8 := dkwX2_distanceBySearch_7 ++ dktX2_distanceBySearch_8
def dkwX2_distanceBySearch_6 : List UInt8 := [166, 0, 7, 4, 167, 0, 4, 3, 54, 9, 21, 9, 153, 0, 34, 45, 21, 8, 46, 2, 160, 0, 26, 45]
abbrev dktX2_distanceBySearch_6 : List UInt8 := dkwX2_distanceBySearch_6 ++ dktX2_distanceBySearch_7
def dkwX2_distanceBySearch_5 : List UInt8 := [180, 0, 66, 25, 7, 165, 0, 20, 25, 7, 180, 0, 66, 42, 180, 0, 12, 21, 8, 182, 0, 74]
abbrev dktX2_distanceBySearch_5 : List UInt8 := dkwX2_distanceBySearch_5 ++ dktX2_distanceBySearch_6
def dkwX2_distanceBySearch_4 : List UInt8 := [3, 54, 8, 21, 8, 45, 190, 162, 0, 89, 42, 180, 0, 12, 21, 8, 182, 0, 74, 192, 0, 64]
abbrev dktX2_distanceBySearch_4 : List UInt8 := dkwX2_distanceBySearch_4 ++ dktX2_distanceBySearch_5
def dkwX2_distanceBySearch_3 : List UInt8 := [21, 6, 21, 5, 162, 0, 122, 42, 180, 0, 12, 25, 4, 21, 6, 46, 182, 0, 74, 192, 0, 64, 58, 7]
abbrev dktX2_distanceBySearch_3 : List UInt8 := dkwX2_distanceBySearch_3 ++ dktX2_distanceBySearch_4
def dkwX2_distanceBySearch_2 : List UInt8 := [180, 0, 12, 182, 0, 126, 188, 10, 58, 4, 25, 4, 3, 43, 180, 0, 70, 79, 4, 54, 5, 3, 54, 6]
abbrev dktX2_distanceBySearch_2 : List UInt8 := dkwX2_distanceBySearch_2 ++ dktX2_distanceBySearch_3
def dkwX2_distanceBySearch_1 : List UInt8 := [21, 4, 43, 180, 0, 70, 160, 0, 7, 3, 167, 0, 4, 2, 79, 132, 4, 1, 167, 255, 228, 42]
abbrev dktX2_distanceBySearch_1 : List UInt8 := dkwX2_distanceBySearch_1 ++ dktX2_distanceBySearch_2
def dkwX2_distanceBySearch_0 : List UInt8 := [42, 180, 0, 12, 182, 0, 126, 188, 10, 78, 3, 54, 4, 21, 4, 45, 190, 162, 0, 27, 45, 21, 4]
abbrev dktX2_distanceBySearch_0 : List UInt8 := dkwX2_distanceBySearch_0 ++ dktX2_distanceBySearch_1
theorem dksX2_distanceBySearch_0 : cX2_distanceBySearch.data.toList.drop 0 = dktX2_distanceBySearch_0 := by decide +kernel
theorem dksX2_distanceBySearch_1 : cX2_distanceBySearch.data.toList.drop 23 = dktX2_distanceBySearch_1 := dk_seg dksX2_distanceBySearch_0 23 rfl rfl
theorem dksX2_distanceBySearch_2 : cX2_distanceBySearch.data.toList.drop 45 = dktX2_distanceBySearch_2 := dk_seg dksX2_distanceBySearch_1 22 rfl rfl
theorem dksX2_distanceBySearch_3 : cX2_distanceBySearch.data.toList.drop 69 = dktX2_distanceBySearch_3 := dk_seg dksX2_distanceBySearch_2 24 rfl rfl
theorem dksX2_distanceBySearch_4 : cX2_distanceBySearch.data.toList.drop 93 = dktX2_distanceBySearch_4 := dk_seg dksX2_distanceBySearch_3 24 rfl rfl
theorem dksX2_distanceBySearch_5 : cX2_distanceBySearch.data.toList.drop 115 = dktX2_distanceBySearch_5 := dk_seg dksX2_distanceBySearch_4 22 rfl rfl
theorem dksX2_distanceBySearch_6 : cX2_distanceBySearch.data.toList.drop 137 = dktX2_distanceBySearch_6 := dk_seg dksX2_distanceBySearch_5 22 rfl rfl
theorem dksX2_distanceBySearch_7 : cX2_distanceBySearch.data.toList.drop 161 = dktX2_distanceBySearch_7 := dk_seg dksX2_distanceBySearch_6 24 rfl rfl
theorem dksX2_distanceBySearch_8 : cX2_distanceBySearch.data.toList.drop 183 = dktX2_distanceBySearch_8 := dk_seg dksX2_distanceBySearch_7 22 rfl rfl
theorem dX2_distanceBySearch_0 : decode cX2_distanceBySearch 0 = .ok (.aload_n 0, 1) := dk_42 (dk_at dksX2_distanceBySearch_0 0 rfl rfl)
theorem dX2_distanceBySearch_1 : decode cX2_distanceBySearch 1 = .ok (.getfield 12, 3) := dk_180 0 12 (dk_at dksX2_distanceBySearch_0 1 rfl rfl)
theorem dX2_distanceBySearch_4 : decode cX2_distanceBySearch 4 = .ok (.invokevirtual 126, 3) := dk_182 0 126 (dk_at dksX2_distanceBySearch_0 4 rfl rfl)
theorem dX2_distanceBySearch_7 : decode cX2_distanceBySearch 7 = .ok (.newarray .int, 2) := dk_188_10 (dk_at dksX2_distanceBySearch_0 7 rfl rfl)
theorem dX2_distanceBySearch_9 : decode cX2_distanceBySearch 9 = .ok (.astore_n 3, 1) := dk_78 (dk_at dksX2_distanceBySearch_0 9 rfl rfl)
theorem dX2_distanceBySearch_10 : decode cX2_distanceBySearch 10 = .ok (.iconst 0, 1) := dk_3 (dk_at dksX2_distanceBySearch_0 10 rfl rfl)
theorem dX2_distanceBySearch_11 : decode cX2_distanceBySearch 11 = .ok (.istore 4, 2) := dk_54 4 (dk_at dksX2_distanceBySearch_0 11 rfl rfl)
theorem dX2_distanceBySearch_13 : decode cX2_distanceBySearch 13 = .ok (.iload 4, 2) := dk_21 4 (dk_at dksX2_distanceBySearch_0 13 rfl rfl)
theorem dX2_distanceBySearch_15 : decode cX2_distanceBySearch 15 = .ok (.aload_n 3, 1) := dk_45 (dk_at dksX2_distanceBySearch_0 15 rfl rfl)
theorem dX2_distanceBySearch_16 : decode cX2_distanceBySearch 16 = .ok (.arraylength, 1) := dk_190 (dk_at dksX2_distanceBySearch_0 16 rfl rfl)
theorem dX2_distanceBySearch_17 : decode cX2_distanceBySearch 17 = .ok (.if_icmp .ge 27, 3) := dk_162 0 27 (dk_at dksX2_distanceBySearch_0 17 rfl rfl)
theorem dX2_distanceBySearch_20 : decode cX2_distanceBySearch 20 = .ok (.aload_n 3, 1) := dk_45 (dk_at dksX2_distanceBySearch_0 20 rfl rfl)
theorem dX2_distanceBySearch_21 : decode cX2_distanceBySearch 21 = .ok (.iload 4, 2) := dk_21 4 (dk_at dksX2_distanceBySearch_0 21 rfl rfl)
theorem dX2_distanceBySearch_23 : decode cX2_distanceBySearch 23 = .ok (.iload 4, 2) := dk_21 4 (dk_at dksX2_distanceBySearch_1 0 rfl rfl)
theorem dX2_distanceBySearch_25 : decode cX2_distanceBySearch 25 = .ok (.aload_n 1, 1) := dk_43 (dk_at dksX2_distanceBySearch_1 2 rfl rfl)
theorem dX2_distanceBySearch_26 : decode cX2_distanceBySearch 26 = .ok (.getfield 70, 3) := dk_180 0 70 (dk_at dksX2_distanceBySearch_1 3 rfl rfl)
theorem dX2_distanceBySearch_29 : decode cX2_distanceBySearch 29 = .ok (.if_icmp .ne 7, 3) := dk_160 0 7 (dk_at dksX2_distanceBySearch_1 6 rfl rfl)
theorem dX2_distanceBySearch_32 : decode cX2_distanceBySearch 32 = .ok (.iconst 0, 1) := dk_3 (dk_at dksX2_distanceBySearch_1 9 rfl rfl)
theorem dX2_distanceBySearch_33 : decode cX2_distanceBySearch 33 = .ok (.goto 4, 3) := dk_167 0 4 (dk_at dksX2_distanceBySearch_1 10 rfl rfl)
theorem dX2_distanceBySearch_36 : decode cX2_distanceBySearch 36 = .ok (.iconst (-1), 1) := dk_2 (dk_at dksX2_distanceBySearch_1 13 rfl rfl)
theorem dX2_distanceBySearch_37 : decode cX2_distanceBySearch 37 = .ok (.iastore, 1) := dk_79 (dk_at dksX2_distanceBySearch_1 14 rfl rfl)
theorem dX2_distanceBySearch_38 : decode cX2_distanceBySearch 38 = .ok (.iinc 4 1, 3) := dk_132 4 1 (dk_at dksX2_distanceBySearch_1 15 rfl rfl)
theorem dX2_distanceBySearch_41 : decode cX2_distanceBySearch 41 = .ok (.goto (-28), 3) := dk_167 255 228 (dk_at dksX2_distanceBySearch_1 18 rfl rfl)
theorem dX2_distanceBySearch_44 : decode cX2_distanceBySearch 44 = .ok (.aload_n 0, 1) := dk_42 (dk_at dksX2_distanceBySearch_1 21 rfl rfl)
theorem dX2_distanceBySearch_45 : decode cX2_distanceBySearch 45 = .ok (.getfield 12, 3) := dk_180 0 12 (dk_at dksX2_distanceBySearch_2 0 rfl rfl)
theorem dX2_distanceBySearch_48 : decode cX2_distanceBySearch 48 = .ok (.invokevirtual 126, 3) := dk_182 0 126 (dk_at dksX2_distanceBySearch_2 3 rfl rfl)
theorem dX2_distanceBySearch_51 : decode cX2_distanceBySearch 51 = .ok (.newarray .int, 2) := dk_188_10 (dk_at dksX2_distanceBySearch_2 6 rfl rfl)
theorem dX2_distanceBySearch_53 : decode cX2_distanceBySearch 53 = .ok (.astore 4, 2) := dk_58 4 (dk_at dksX2_distanceBySearch_2 8 rfl rfl)
theorem dX2_distanceBySearch_55 : decode cX2_distanceBySearch 55 = .ok (.aload 4, 2) := dk_25 4 (dk_at dksX2_distanceBySearch_2 10 rfl rfl)
theorem dX2_distanceBySearch_57 : decode cX2_distanceBySearch 57 = .ok (.iconst 0, 1) := dk_3 (dk_at dksX2_distanceBySearch_2 12 rfl rfl)
theorem dX2_distanceBySearch_58 : decode cX2_distanceBySearch 58 = .ok (.aload_n 1, 1) := dk_43 (dk_at dksX2_distanceBySearch_2 13 rfl rfl)
theorem dX2_distanceBySearch_59 : decode cX2_distanceBySearch 59 = .ok (.getfield 70, 3) := dk_180 0 70 (dk_at dksX2_distanceBySearch_2 14 rfl rfl)
theorem dX2_distanceBySearch_62 : decode cX2_distanceBySearch 62 = .ok (.iastore, 1) := dk_79 (dk_at dksX2_distanceBySearch_2 17 rfl rfl)
theorem dX2_distanceBySearch_63 : decode cX2_distanceBySearch 63 = .ok (.iconst 1, 1) := dk_4 (dk_at dksX2_distanceBySearch_2 18 rfl rfl)
theorem dX2_distanceBySearch_64 : decode cX2_distanceBySearch 64 = .ok (.istore 5, 2) := dk_54 5 (dk_at dksX2_distanceBySearch_2 19 rfl rfl)
theorem dX2_distanceBySearch_66 : decode cX2_distanceBySearch 66 = .ok (.iconst 0, 1) := dk_3 (dk_at dksX2_distanceBySearch_2 21 rfl rfl)
theorem dX2_distanceBySearch_67 : decode cX2_distanceBySearch 67 = .ok (.istore 6, 2) := dk_54 6 (dk_at dksX2_distanceBySearch_2 22 rfl rfl)
theorem dX2_distanceBySearch_69 : decode cX2_distanceBySearch 69 = .ok (.iload 6, 2) := dk_21 6 (dk_at dksX2_distanceBySearch_3 0 rfl rfl)
theorem dX2_distanceBySearch_71 : decode cX2_distanceBySearch 71 = .ok (.iload 5, 2) := dk_21 5 (dk_at dksX2_distanceBySearch_3 2 rfl rfl)
theorem dX2_distanceBySearch_73 : decode cX2_distanceBySearch 73 = .ok (.if_icmp .ge 122, 3) := dk_162 0 122 (dk_at dksX2_distanceBySearch_3 4 rfl rfl)
theorem dX2_distanceBySearch_76 : decode cX2_distanceBySearch 76 = .ok (.aload_n 0, 1) := dk_42 (dk_at dksX2_distanceBySearch_3 7 rfl rfl)
theorem dX2_distanceBySearch_77 : decode cX2_distanceBySearch 77 = .ok (.getfield 12, 3) := dk_180 0 12 (dk_at dksX2_distanceBySearch_3 8 rfl rfl)
theorem dX2_distanceBySearch_80 : decode cX2_distanceBySearch 80 = .ok (.aload 4, 2) := dk_25 4 (dk_at dksX2_distanceBySearch_3 11 rfl rfl)
theorem dX2_distanceBySearch_82 : decode cX2_distanceBySearch 82 = .ok (.iload 6, 2) := dk_21 6 (dk_at dksX2_distanceBySearch_3 13 rfl rfl)
theorem dX2_distanceBySearch_84 : decode cX2_distanceBySearch 84 = .ok (.iaload, 1) := dk_46 (dk_at dksX2_distanceBySearch_3 15 rfl rfl)
theorem dX2_distanceBySearch_85 : decode cX2_distanceBySearch 85 = .ok (.invokevirtual 74, 3) := dk_182 0 74 (dk_at dksX2_distanceBySearch_3 16 rfl rfl)
theorem dX2_distanceBySearch_88 : decode cX2_distanceBySearch 88 = .ok (.checkcast 64, 3) := dk_192 0 64 (dk_at dksX2_distanceBySearch_3 19 rfl rfl)
theorem dX2_distanceBySearch_91 : decode cX2_distanceBySearch 91 = .ok (.astore 7, 2) := dk_58 7 (dk_at dksX2_distanceBySearch_3 22 rfl rfl)
theorem dX2_distanceBySearch_93 : decode cX2_distanceBySearch 93 = .ok (.iconst 0, 1) := dk_3 (dk_at dksX2_distanceBySearch_4 0 rfl rfl)
theorem dX2_distanceBySearch_94 : decode cX2_distanceBySearch 94 = .ok (.istore 8, 2) := dk_54 8 (dk_at dksX2_distanceBySearch_4 1 rfl rfl)
theorem dX2_distanceBySearch_96 : decode cX2_distanceBySearch 96 = .ok (.iload 8, 2) := dk_21 8 (dk_at dksX2_distanceBySearch_4 3 rfl rfl)
theorem dX2_distanceBySearch_98 : decode cX2_distanceBySearch 98 = .ok (.aload_n 3, 1) := dk_45 (dk_at dksX2_distanceBySearch_4 5 rfl rfl)
theorem dX2_distanceBySearch_99 : decode cX2_distanceBySearch 99 = .ok (.arraylength, 1) := dk_190 (dk_at dksX2_distanceBySearch_4 6 rfl rfl)
theorem dX2_distanceBySearch_100 : decode cX2_distanceBySearch 100 = .ok (.if_icmp .ge 89, 3) := dk_162 0 89 (dk_at dksX2_distanceBySearch_4 7 rfl rfl)
theorem dX2_distanceBySearch_103 : decode cX2_distanceBySearch 103 = .ok (.aload_n 0, 1) := dk_42 (dk_at dksX2_distanceBySearch_4 10 rfl rfl)
theorem dX2_distanceBySearch_104 : decode cX2_distanceBySearch 104 = .ok (.getfield 12, 3) := dk_180 0 12 (dk_at dksX2_distanceBySearch_4 11 rfl rfl)
theorem dX2_distanceBySearch_107 : decode cX2_distanceBySearch 107 = .ok (.iload 8, 2) := dk_21 8 (dk_at dksX2_distanceBySearch_4 14 rfl rfl)
theorem dX2_distanceBySearch_109 : decode cX2_distanceBySearch 109 = .ok (.invokevirtual 74, 3) := dk_182 0 74 (dk_at dksX2_distanceBySearch_4 16 rfl rfl)
theorem dX2_distanceBySearch_112 : decode cX2_distanceBySearch 112 = .ok (.checkcast 64, 3) := dk_192 0 64 (dk_at dksX2_distanceBySearch_4 19 rfl rfl)
theorem dX2_distanceBySearch_115 : decode cX2_distanceBySearch 115 = .ok (.getfield 66, 3) := dk_180 0 66 (dk_at dksX2_distanceBySearch_5 0 rfl rfl)
theorem dX2_distanceBySearch_118 : decode cX2_distanceBySearch 118 = .ok (.aload 7, 2) := dk_25 7 (dk_at dksX2_distanceBySearch_5 3 rfl rfl)
theorem dX2_distanceBySearch_120 : decode cX2_distanceBySearch 120 = .ok (.if_acmp .eq 20, 3) := dk_165 0 20 (dk_at dksX2_distanceBySearch_5 5 rfl rfl)
theorem dX2_distanceBySearch_123 : decode cX2_distanceBySearch 123 = .ok (.aload 7, 2) := dk_25 7 (dk_at dksX2_distanceBySearch_5 8 rfl rfl)
theorem dX2_distanceBySearch_125 : decode cX2_distanceBySearch 125 = .ok (.getfield 66, 3) := dk_180 0 66 (dk_at dksX2_distanceBySearch_5 10 rfl rfl)
theorem dX2_distanceBySearch_128 : decode cX2_distanceBySearch 128 = .ok (.aload_n 0, 1) := dk_42 (dk_at dksX2_distanceBySearch_5 13 rfl rfl)
theorem dX2_distanceBySearch_129 : decode cX2_distanceBySearch 129 = .ok (.getfield 12, 3) := dk_180 0 12 (dk_at dksX2_distanceBySearch_5 14 rfl rfl)
theorem dX2_distanceBySearch_132 : decode cX2_distanceBySearch 132 = .ok (.iload 8, 2) := dk_21 8 (dk_at dksX2_distanceBySearch_5 17 rfl rfl)
theorem dX2_distanceBySearch_134 : decode cX2_distanceBySearch 134 = .ok (.invokevirtual 74, 3) := dk_182 0 74 (dk_at dksX2_distanceBySearch_5 19 rfl rfl)
theorem dX2_distanceBySearch_137 : decode cX2_distanceBySearch 137 = .ok (.if_acmp .ne 7, 3) := dk_166 0 7 (dk_at dksX2_distanceBySearch_6 0 rfl rfl)
theorem dX2_distanceBySearch_140 : decode cX2_distanceBySearch 140 = .ok (.iconst 1, 1) := dk_4 (dk_at dksX2_distanceBySearch_6 3 rfl rfl)
theorem dX2_distanceBySearch_141 : decode cX2_distanceBySearch 141 = .ok (.goto 4, 3) := dk_167 0 4 (dk_at dksX2_distanceBySearch_6 4 rfl rfl)
theorem dX2_distanceBySearch_144 : decode cX2_distanceBySearch 144 = .ok (.iconst 0, 1) := dk_3 (dk_at dksX2_distanceBySearch_6 7 rfl rfl)
theorem dX2_distanceBySearch_145 : decode cX2_distanceBySearch 145 = .ok (.istore 9, 2) := dk_54 9 (dk_at dksX2_distanceBySearch_6 8 rfl rfl)
theorem dX2_distanceBySearch_147 : decode cX2_distanceBySearch 147 = .ok (.iload 9, 2) := dk_21 9 (dk_at dksX2_distanceBySearch_6 10 rfl rfl)
theorem dX2_distanceBySearch_149 : decode cX2_distanceBySearch 149 = .ok (.ifCond .eq 34, 3) := dk_153 0 34 (dk_at dksX2_distanceBySearch_6 12 rfl rfl)
theorem dX2_distanceBySearch_152 : decode cX2_distanceBySearch 152 = .ok (.aload_n 3, 1) := dk_45 (dk_at dksX2_distanceBySearch_6 15 rfl rfl)
theorem dX2_distanceBySearch_153 : decode cX2_distanceBySearch 153 = .ok (.iload 8, 2) := dk_21 8 (dk_at dksX2_distanceBySearch_6 16 rfl rfl)
theorem dX2_distanceBySearch_155 : decode cX2_distanceBySearch 155 = .ok (.iaload, 1) := dk_46 (dk_at dksX2_distanceBySearch_6 18 rfl rfl)
theorem dX2_distanceBySearch_156 : decode cX2_distanceBySearch 156 = .ok (.iconst (-1), 1) := dk_2 (dk_at dksX2_distanceBySearch_6 19 rfl rfl)
theorem dX2_distanceBySearch_157 : decode cX2_distanceBySearch 157 = .ok (.if_icmp .ne 26, 3) := dk_160 0 26 (dk_at dksX2_distanceBySearch_6 20 rfl rfl)
theorem dX2_distanceBySearch_160 : decode cX2_distanceBySearch 160 = .ok (.aload_n 3, 1) := dk_45 (dk_at dksX2_distanceBySearch_6 23 rfl rfl)
theorem dX2_distanceBySearch_161 : decode cX2_distanceBySearch 161 = .ok (.iload 8, 2) := dk_21 8 (dk_at dksX2_distanceBySearch_7 0 rfl rfl)
theorem dX2_distanceBySearch_163 : decode cX2_distanceBySearch 163 = .ok (.aload_n 3, 1) := dk_45 (dk_at dksX2_distanceBySearch_7 2 rfl rfl)
theorem dX2_distanceBySearch_164 : decode cX2_distanceBySearch 164 = .ok (.aload 7, 2) := dk_25 7 (dk_at dksX2_distanceBySearch_7 3 rfl rfl)
theorem dX2_distanceBySearch_166 : decode cX2_distanceBySearch 166 = .ok (.getfield 70, 3) := dk_180 0 70 (dk_at dksX2_distanceBySearch_7 5 rfl rfl)
theorem dX2_distanceBySearch_169 : decode cX2_distanceBySearch 169 = .ok (.iaload, 1) := dk_46 (dk_at dksX2_distanceBySearch_7 8 rfl rfl)
theorem dX2_distanceBySearch_170 : decode cX2_distanceBySearch 170 = .ok (.iconst 1, 1) := dk_4 (dk_at dksX2_distanceBySearch_7 9 rfl rfl)
theorem dX2_distanceBySearch_171 : decode cX2_distanceBySearch 171 = .ok (.iadd, 1) := dk_96 (dk_at dksX2_distanceBySearch_7 10 rfl rfl)
theorem dX2_distanceBySearch_172 : decode cX2_distanceBySearch 172 = .ok (.iastore, 1) := dk_79 (dk_at dksX2_distanceBySearch_7 11 rfl rfl)
theorem dX2_distanceBySearch_173 : decode cX2_distanceBySearch 173 = .ok (.aload 4, 2) := dk_25 4 (dk_at dksX2_distanceBySearch_7 12 rfl rfl)
theorem dX2_distanceBySearch_175 : decode cX2_distanceBySearch 175 = .ok (.iload 5, 2) := dk_21 5 (dk_at dksX2_distanceBySearch_7 14 rfl rfl)
theorem dX2_distanceBySearch_177 : decode cX2_distanceBySearch 177 = .ok (.iload 8, 2) := dk_21 8 (dk_at dksX2_distanceBySearch_7 16 rfl rfl)
theorem dX2_distanceBySearch_179 : decode cX2_distanceBySearch 179 = .ok (.iastore, 1) := dk_79 (dk_at dksX2_distanceBySearch_7 18 rfl rfl)
theorem dX2_distanceBySearch_180 : decode cX2_distanceBySearch 180 = .ok (.iinc 5 1, 3) := dk_132 5 1 (dk_at dksX2_distanceBySearch_7 19 rfl rfl)
theorem dX2_distanceBySearch_183 : decode cX2_distanceBySearch 183 = .ok (.iinc 8 1, 3) := dk_132 8 1 (dk_at dksX2_distanceBySearch_8 0 rfl rfl)
theorem dX2_distanceBySearch_186 : decode cX2_distanceBySearch 186 = .ok (.goto (-90), 3) := dk_167 255 166 (dk_at dksX2_distanceBySearch_8 3 rfl rfl)
theorem dX2_distanceBySearch_189 : decode cX2_distanceBySearch 189 = .ok (.iinc 6 1, 3) := dk_132 6 1 (dk_at dksX2_distanceBySearch_8 6 rfl rfl)
theorem dX2_distanceBySearch_192 : decode cX2_distanceBySearch 192 = .ok (.goto (-123), 3) := dk_167 255 133 (dk_at dksX2_distanceBySearch_8 9 rfl rfl)
theorem dX2_distanceBySearch_195 : decode cX2_distanceBySearch 195 = .ok (.aload_n 3, 1) := dk_45 (dk_at dksX2_distanceBySearch_8 12 rfl rfl)
theorem dX2_distanceBySearch_196 : decode cX2_distanceBySearch 196 = .ok (.aload_n 2, 1) := dk_44 (dk_at dksX2_distanceBySearch_8 13 rfl rfl)
theorem dX2_distanceBySearch_197 : decode cX2_distanceBySearch 197 = .ok (.getfield 70, 3) := dk_180 0 70 (dk_at dksX2_distanceBySearch_8 14 rfl rfl)
theorem dX2_distanceBySearch_200 : decode cX2_distanceBySearch 200 = .ok (.iaload, 1) := dk_46 (dk_at dksX2_distanceBySearch_8 17 rfl rfl)
theorem dX2_distanceBySearch_201 : decode cX2_distanceBySearch 201 = .ok (.ireturn, 1) := dk_172 (dk_at dksX2_distanceBySearch_8 18 rfl rfl)
def dkwX2_copy_9 : List UInt8 := [180, 0, 117, 181, 0, 117, 43, 42, 180, 0, 120, 181, 0, 120, 43, 42, 180, 0, 123, 181, 0, 123, 43, 176]
abbrev dktX2_copy_9 : List UInt8 := dkwX2_copy_9 ++ []
def dkwX2_copy_8 : List UInt8 := [180, 0, 18, 25, 4, 182, 0, 110, 87, 167, 255, 155, 43, 42, 180, 0, 114, 181, 0, 114, 43, 42]
abbrev dktX2_copy_8 : List UInt8 := dkwX2_copy_8 ++ dktX2_copy_9
def dkwX2_copy_7 : List UInt8 := [167, 0, 20, 43, 180, 0, 12, 45, 180, 0, 107, 180, 0, 70, 182, 0, 74, 192, 0, 64, 181, 0, 107, 43]
abbrev dktX2_copy_7 : List UInt8 := dkwX2_copy_7 ++ dktX2_copy_8
def dkwX2_copy_6 : List UInt8 := [181, 0, 98, 25, 4, 45, 180, 0, 101, 181, 0, 101, 25, 4, 45, 182, 0, 104, 153, 0, 7, 1]
abbrev dktX2_copy_6 : List UInt8 := dkwX2_copy_6 ++ dktX2_copy_7
def dkwX2_copy_5 : List UInt8 := [180, 0, 88, 45, 180, 0, 89, 45, 180, 0, 93, 183, 0, 95, 58, 4, 25, 4, 45, 180, 0, 98]
abbrev dktX2_copy_5 : List UInt8 := dkwX2_copy_5 ++ dktX2_copy_6
def dkwX2_copy_4 : List UInt8 := [185, 0, 54, 1, 0, 153, 0, 98, 44, 185, 0, 60, 1, 0, 192, 0, 86, 78, 187, 0, 86, 89, 45]
abbrev dktX2_copy_4 : List UInt8 := dkwX2_copy_4 ++ dktX2_copy_5
def dkwX2_copy_3 : List UInt8 := [58, 4, 25, 4, 45, 180, 0, 82, 181, 0, 82, 167, 255, 194, 42, 180, 0, 18, 182, 0, 50, 77, 44]
abbrev dktX2_copy_3 : List UInt8 := dkwX2_copy_3 ++ dktX2_copy_4
def dkwX2_copy_2 : List UInt8 := [167, 0, 20, 43, 180, 0, 12, 45, 180, 0, 66, 180, 0, 70, 182, 0, 74, 192, 0, 64, 182, 0, 78]
abbrev dktX2_copy_2 : List UInt8 := dkwX2_copy_2 ++ dktX2_copy_3
def dkwX2_copy_1 : List UInt8 := [153, 0, 59, 44, 185, 0, 60, 1, 0, 192, 0, 64, 78, 43, 45, 180, 0, 66, 199, 0, 7, 1]
abbrev dktX2_copy_1 : List UInt8 := dkwX2_copy_1 ++ dktX2_copy_2
def dkwX2_copy_0 : List UInt8 := [187, 0, 13, 89, 183, 0, 49, 76, 42, 180, 0, 12, 182, 0, 50, 77, 44, 185, 0, 54, 1, 0]
abbrev dktX2_copy_0 : List UInt8 := dkwX2_copy_0 ++ dktX2_copy_1
theorem dksX2_copy_0 : cX2_copy.data.toList.drop 0 = dktX2_copy_0 := by decide +kernel
theorem dksX2_copy_1 : cX2_copy.data.toList.drop 22 = dktX2_copy_1 := dk_seg dksX2_copy_0 22 rfl rfl
theorem dksX2_copy_2 : cX2_copy.data.toList.drop 44 = dktX2_copy_2 := dk_seg dksX2_copy_1 22 rfl rfl
theorem dksX2_copy_3 : cX2_copy.data.toList.drop 67 = dktX2_copy_3 := dk_seg dksX2_copy_2 23 rfl rfl
theorem dksX2_copy_4 : cX2_copy.data.toList.drop 90 = dktX2_copy_4 := dk_seg dksX2_copy_3 23 rfl rfl
theorem dksX2_copy_5 : cX2_copy.data.toList.drop 113 = dktX2_copy_5 := dk_seg dksX2_copy_4 23 rfl rfl
theorem dksX2_copy_6 : cX2_copy.data.toList.drop 135 = dktX2_copy_6 := dk_seg dksX2_copy_5 22 rfl rfl
theorem dksX2_copy_7 : cX2_copy.data.toList.drop 157 = dktX2_copy_7 := dk_seg dksX2_copy_6 22 rfl rfl
theorem dksX2_copy_8 : cX2_copy.data.toList.drop 181 = dktX2_copy_8 := dk_seg dksX2_copy_7 24 rfl rfl
theorem dksX2_copy_9 : cX2_copy.data.toList.drop 203 = dktX2_copy_9 := dk_seg dksX2_copy_8 22 rfl rfl
theorem dX2_copy_0 : decode cX2_copy 0 = .ok (.new 13, 3) := dk_187 0 13 (dk_at dksX2_copy_0 0 rfl rfl)
theorem dX2_copy_3 : decode cX2_copy 3 = .ok (.dup, 1) := dk_89 (dk_at dksX2_copy_0 3 rfl rfl)
theorem dX2_copy_4 : decode cX2_copy 4 = .ok (.invokespecial 49, 3) := dk_183 0 49 (dk_at dksX2_copy_0 4 rfl rfl)
theorem dX2_copy_7 : decode cX2_copy 7 = .ok (.astore_n 1, 1) := dk_76 (dk_at dksX2_copy_0 7 rfl rfl)
theorem dX2_copy_8 : decode cX2_copy 8 = .ok (.aload_n 0, 1) := dk_42 (dk_at dksX2_copy_0 8 rfl rfl)
theorem dX2_copy_9 : decode cX2_copy 9 = .ok (.getfield 12, 3) := dk_180 0 12 (dk_at dksX2_copy_0 9 rfl rfl)
theorem dX2_copy_12 : decode cX2_copy 12 = .ok (.invokevirtual 50, 3) := dk_182 0 50 (dk_at dksX2_copy_0 12 rfl rfl)
theorem dX2_copy_15 : decode cX2_copy 15 = .ok (.astore_n 2, 1) := dk_77 (dk_at dksX2_copy_0 15 rfl rfl)
theorem dX2_copy_16 : decode cX2_copy 16 = .ok (.aload_n 2, 1) := dk_44 (dk_at dksX2_copy_0 16 rfl rfl)
theorem dX2_copy_17 : decode cX2_copy 17 = .ok (.invokeinterface 54 1, 5) := by decide +kernel
theorem dX2_copy_22 : decode cX2_copy 22 = .ok (.ifCond .eq 59, 3) := dk_153 0 59 (dk_at dksX2_copy_1 0 rfl rfl)
theorem dX2_copy_25 : decode cX2_copy 25 = .ok (.aload_n 2, 1) := dk_44 (dk_at dksX2_copy_1 3 rfl rfl)
theorem dX2_copy_26 : decode cX2_copy 26 = .ok (.invokeinterface 60 1, 5) := by decide +kernel
theorem dX2_copy_31 : decode cX2_copy 31 = .ok (.checkcast 64, 3) := dk_192 0 64 (dk_at dksX2_copy_1 9 rfl rfl)
theorem dX2_copy_34 : decode cX2_copy 34 = .ok (.astore_n 3, 1) := dk_78 (dk_at dksX2_copy_1 12 rfl rfl)
theorem dX2_copy_35 : decode cX2_copy 35 = .ok (.aload_n 1, 1) := dk_43 (dk_at dksX2_copy_1 13 rfl rfl)
theorem dX2_copy_36 : decode cX2_copy 36 = .ok (.aload_n 3, 1) := dk_45 (dk_at dksX2_copy_1 14 rfl rfl)
theorem dX2_copy_37 : decode cX2_copy 37 = .ok (.getfield 66, 3) := dk_180 0 66 (dk_at dksX2_copy_1 15 rfl rfl)
theorem dX2_copy_40 : decode cX2_copy 40 = .ok (.ifnonnull 7, 3) := dk_199 0 7 (dk_at dksX2_copy_1 18 rfl rfl)
theorem dX2_copy_43 : decode cX2_copy 43 = .ok (.aconst_null, 1) := dk_1 (dk_at dksX2_copy_1 21 rfl rfl)
theorem dX2_copy_44 : decode cX2_copy 44 = .ok (.goto 20, 3) := dk_167 0 20 (dk_at dksX2_copy_2 0 rfl rfl)
theorem dX2_copy_47 : decode cX2_copy 47 = .ok (.aload_n 1, 1) := dk_43 (dk_at dksX2_copy_2 3 rfl rfl)
theorem dX2_copy_48 : decode cX2_copy 48 = .ok (.getfield 12, 3) := dk_180 0 12 (dk_at dksX2_copy_2 4 rfl rfl)
theorem dX2_copy_51 : decode cX2_copy 51 = .ok (.aload_n 3, 1) := dk_45 (dk_at dksX2_copy_2 7 rfl rfl)
theorem dX2_copy_52 : decode cX2_copy 52 = .ok (.getfield 66, 3) := dk_180 0 66 (dk_at dksX2_copy_2 8 rfl rfl)
theorem dX2_copy_55 : decode cX2_copy 55 = .ok (.getfield 70, 3) := dk_180 0 70 (dk_at dksX2_copy_2 11 rfl rfl)
theorem dX2_copy_58 : decode cX2_copy 58 = .ok (.invokevirtual 74, 3) := dk_182 0 74 (dk_at dksX2_copy_2 14 rfl rfl)
theorem dX2_copy_61 : decode cX2_copy 61 = .ok (.checkcast 64, 3) := dk_192 0 64 (dk_at dksX2_copy_2 17 rfl rfl)
theorem dX2_copy_64 : decode cX2_copy 64 = .ok (.invokevirtual 78, 3) := dk_182 0 78 (dk_at dksX2_copy_2 20 rfl rfl)
theorem dX2_copy_67 : decode cX2_copy 67 = .ok (.astore 4, 2) := dk_58 4 (dk_at dksX2_copy_3 0 rfl rfl)
theorem dX2_copy_69 : decode cX2_copy 69 = .ok (.aload 4, 2) := dk_25 4 (dk_at dksX2_copy_3 2 rfl rfl)
theorem dX2_copy_71 : decode cX2_copy 71 = .ok (.aload_n 3, 1) := dk_45 (dk_at dksX2_copy_3 4 rfl rfl)
theorem dX2_copy_72 : decode cX2_copy 72 = .ok (.getfield 82, 3) := dk_180 0 82 (dk_at dksX2_copy_3 5 rfl rfl)
theorem dX2_copy_75 : decode cX2_copy 75 = .ok (.putfield 82, 3) := dk_181 0 82 (dk_at dksX2_copy_3 8 rfl rfl)
theorem dX2_copy_78 : decode cX2_copy 78 = .ok (.goto (-62), 3) := dk_167 255 194 (dk_at dksX2_copy_3 11 rfl rfl)
theorem dX2_copy_81 : decode cX2_copy 81 = .ok (.aload_n 0, 1) := dk_42 (dk_at dksX2_copy_3 14 rfl rfl)
theorem dX2_copy_82 : decode cX2_copy 82 = .ok (.getfield 18, 3) := dk_180 0 18 (dk_at dksX2_copy_3 15 rfl rfl)
theorem dX2_copy_85 : decode cX2_copy 85 = .ok (.invokevirtual 50, 3) := dk_182 0 50 (dk_at dksX2_copy_3 18 rfl rfl)
theorem dX2_copy_88 : decode cX2_copy 88 = .ok (.astore_n 2, 1) := dk_77 (dk_at dksX2_copy_3 21 rfl rfl)
theorem dX2_copy_89 : decode cX2_copy 89 = .ok (.aload_n 2, 1) := dk_44 (dk_at dksX2_copy_3 22 rfl rfl)
theorem dX2_copy_90 : decode cX2_copy 90 = .ok (.invokeinterface 54 1, 5) := by decide +kernel
theorem dX2_copy_95 : decode cX2_copy 95 = .ok (.ifCond .eq 98, 3) := dk_153 0 98 (dk_at dksX2_copy_4 5 rfl rfl)
theorem dX2_copy_98 : decode cX2_copy 98 = .ok (.aload_n 2, 1) := dk_44 (dk_at dksX2_copy_4 8 rfl rfl)
theorem dX2_copy_99 : decode cX2_copy 99 = .ok (.invokeinterface 60 1, 5) := by decide +kernel
theorem dX2_copy_104 : decode cX2_copy 104 = .ok (.checkcast 86, 3) := dk_192 0 86 (dk_at dksX2_copy_4 14 rfl rfl)
theorem dX2_copy_107 : decode cX2_copy 107 = .ok (.astore_n 3, 1) := dk_78 (dk_at dksX2_copy_4 17 rfl rfl)
theorem dX2_copy_108 : decode cX2_copy 108 = .ok (.new 86, 3) := dk_187 0 86 (dk_at dksX2_copy_4 18 rfl rfl)
theorem dX2_copy_111 : decode cX2_copy 111 = .ok (.dup, 1) := dk_89 (dk_at dksX2_copy_4 21 rfl rfl)
theorem dX2_copy_112 : decode cX2_copy 112 = .ok (.aload_n 3, 1) := dk_45 (dk_at dksX2_copy_4 22 rfl rfl)
theorem dX2_copy_113 : decode cX2_copy 113 = .ok (.getfield 88, 3) := dk_180 0 88 (dk_at dksX2_copy_5 0 rfl rfl)
theorem dX2_copy_116 : decode cX2_copy 116 = .ok (.aload_n 3, 1) := dk_45 (dk_at dksX2_copy_5 3 rfl rfl)
theorem dX2_copy_117 : decode cX2_copy 117 = .ok (.getfield 89, 3) := dk_180 0 89 (dk_at dksX2_copy_5 4 rfl rfl)
theorem dX2_copy_120 : decode cX2_copy 120 = .ok (.aload_n 3, 1) := dk_45 (dk_at dksX2_copy_5 7 rfl rfl)
theorem dX2_copy_121 : decode cX2_copy 121 = .ok (.getfield 93, 3) := dk_180 0 93 (dk_at dksX2_copy_5 8 rfl rfl)
theorem dX2_copy_124 : decode cX2_copy 124 = .ok (.invokespecial 95, 3) := dk_183 0 95 (dk_at dksX2_copy_5 11 rfl rfl)
theorem dX2_copy_127 : decode cX2_copy 127 = .ok (.astore 4, 2) := dk_58 4 (dk_at dksX2_copy_5 14 rfl rfl)
theorem dX2_copy_129 : decode cX2_copy 129 = .ok (.aload 4, 2) := dk_25 4 (dk_at dksX2_copy_5 16 rfl rfl)
theorem dX2_copy_131 : decode cX2_copy 131 = .ok (.aload_n 3, 1) := dk_45 (dk_at dksX2_copy_5 18 rfl rfl)
theorem dX2_copy_132 : decode cX2_copy 132 = .ok (.getfield 98, 3) := dk_180 0 98 (dk_at dksX2_copy_5 19 rfl rfl)
theorem dX2_copy_135 : decode cX2_copy 135 = .ok (.putfield 98, 3) := dk_181 0 98 (dk_at dksX2_copy_6 0 rfl rfl)
theorem dX2_copy_138 : decode cX2_copy 138 = .ok (.aload 4, 2) := dk_25 4 (dk_at dksX2_copy_6 3 rfl rfl)
theorem dX2_copy_140 : decode cX2_copy 140 = .ok (.aload_n 3, 1) := dk_45 (dk_at dksX2_copy_6 5 rfl rfl)
theorem dX2_copy_141 : decode cX2_copy 141 = .ok (.getfield 101, 3) := dk_180 0 101 (dk_at dksX2_copy_6 6 rfl rfl)
theorem dX2_copy_144 : decode cX2_copy 144 = .ok (.putfield 101, 3) := dk_181 0 101 (dk_at dksX2_copy_6 9 rfl rfl)
theorem dX2_copy_147 : decode cX2_copy 147 = .ok (.aload 4, 2) := dk_25 4 (dk_at dksX2_copy_6 12 rfl rfl)
theorem dX2_copy_149 : decode cX2_copy 149 = .ok (.aload_n 3, 1) := dk_45 (dk_at dksX2_copy_6 14 rfl rfl)
theorem dX2_copy_150 : decode cX2_copy 150 = .ok (.invokevirtual 104, 3) := dk_182 0 104 (dk_at dksX2_copy_6 15 rfl rfl)
theorem dX2_copy_153 : decode cX2_copy 153 = .ok (.ifCond .eq 7, 3) := dk_153 0 7 (dk_at dksX2_copy_6 18 rfl rfl)
theorem dX2_copy_156 : decode cX2_copy 156 = .ok (.aconst_null, 1) := dk_1 (dk_at dksX2_copy_6 21 rfl rfl)
theorem dX2_copy_157 : decode cX2_copy 157 = .ok (.goto 20, 3) := dk_167 0 20 (dk_at dksX2_copy_7 0 rfl rfl)
theorem dX2_copy_160 : decode cX2_copy 160 = .ok (.aload_n 1, 1) := dk_43 (dk_at dksX2_copy_7 3 rfl rfl)
theorem dX2_copy_161 : decode cX2_copy 161 = .ok (.getfield 12, 3) := dk_180 0 12 (dk_at dksX2_copy_7 4 rfl rfl)
theorem dX2_copy_164 : decode cX2_copy 164 = .ok (.aload_n 3, 1) := dk_45 (dk_at dksX2_copy_7 7 rfl rfl)
theorem dX2_copy_165 : decode cX2_copy 165 = .ok (.getfield 107, 3) := dk_180 0 107 (dk_at dksX2_copy_7 8 rfl rfl)
theorem dX2_copy_168 : decode cX2_copy 168 = .ok (.getfield 70, 3) := dk_180 0 70 (dk_at dksX2_copy_7 11 rfl rfl)
theorem dX2_copy_171 : decode cX2_copy 171 = .ok (.invokevirtual 74, 3) := dk_182 0 74 (dk_at dksX2_copy_7 14 rfl rfl)
theorem dX2_copy_174 : decode cX2_copy 174 = .ok (.checkcast 64, 3) := dk_192 0 64 (dk_at dksX2_copy_7 17 rfl rfl)
theorem dX2_copy_177 : decode cX2_copy 177 = .ok (.putfield 107, 3) := dk_181 0 107 (dk_at dksX2_copy_7 20 rfl rfl)
theorem dX2_copy_180 : decode cX2_copy 180 = .ok (.aload_n 1, 1) := dk_43 (dk_at dksX2_copy_7 23 rfl rfl)
theorem dX2_copy_181 : decode cX2_copy 181 = .ok (.getfield 18, 3) := dk_180 0 18 (dk_at dksX2_copy_8 0 rfl rfl)
theorem dX2_copy_184 : decode cX2_copy 184 = .ok (.aload 4, 2) := dk_25 4 (dk_at dksX2_copy_8 3 rfl rfl)
theorem dX2_copy_186 : decode cX2_copy 186 = .ok (.invokevirtual 110, 3) := dk_182 0 110 (dk_at dksX2_copy_8 5 rfl rfl)
theorem dX2_copy_189 : decode cX2_copy 189 = .ok (.pop, 1) := dk_87 (dk_at dksX2_copy_8 8 rfl rfl)
theorem dX2_copy_190 : decode cX2_copy 190 = .ok (.goto (-101), 3) := dk_167 255 155 (dk_at dksX2_copy_8 9 rfl rfl)
theorem dX2_copy_193 : decode cX2_copy 193 = .ok (.aload_n 1, 1) := dk_43 (dk_at dksX2_copy_8 12 rfl rfl)
theorem dX2_copy_194 : decode cX2_copy 194 = .ok (.aload_n 0, 1) := dk_42 (dk_at dksX2_copy_8 13 rfl rfl)
theorem dX2_copy_195 : decode cX2_copy 195 = .ok (.getfield 114, 3) := dk_180 0 114 (dk_at dksX2_copy_8 14 rfl rfl)
theorem dX2_copy_198 : decode cX2_copy 198 = .ok (.putfield 114, 3) := dk_181 0 114 (dk_at dksX2_copy_8 17 rfl rfl)
theorem dX2_copy_201 : decode cX2_copy 201 = .ok (.aload_n 1, 1) := dk_43 (dk_at dksX2_copy_8 20 rfl rfl)
theorem dX2_copy_202 : decode cX2_copy 202 = .ok (.aload_n 0, 1) := dk_42 (dk_at dksX2_copy_8 21 rfl rfl)
theorem dX2_copy_203 : decode cX2_copy 203 = .ok (.getfield 117, 3) := dk_180 0 117 (dk_at dksX2_copy_9 0 rfl rfl)
theorem dX2_copy_206 : decode cX2_copy 206 = .ok (.putfield 117, 3) := dk_181 0 117 (dk_at dksX2_copy_9 3 rfl rfl)
theorem dX2_copy_209 : decode cX2_copy 209 = .ok (.aload_n 1, 1) := dk_43 (dk_at dksX2_copy_9 6 rfl rfl)
theorem dX2_copy_210 : decode cX2_copy 210 = .ok (.aload_n 0, 1) := dk_42 (dk_at dksX2_copy_9 7 rfl rfl)
theorem dX2_copy_211 : decode cX2_copy 211 = .ok (.getfield 120, 3) := dk_180 0 120 (dk_at dksX2_copy_9 8 rfl rfl)
theorem dX2_copy_214 : decode cX2_copy 214 = .ok (.putfield 120, 3) := dk_181 0 120 (dk_at dksX2_copy_9 11 rfl rfl)
theorem dX2_copy_217 : decode cX2_copy 217 = .ok (.aload_n 1, 1) := dk_43 (dk_at dksX2_copy_9 14 rfl rfl)
theorem dX2_copy_218 : decode cX2_copy 218 = .ok (.aload_n 0, 1) := dk_42 (dk_at dksX2_copy_9 15 rfl rfl)
theorem dX2_copy_219 : decode cX2_copy 219 = .ok (.getfield 123, 3) := dk_180 0 123 (dk_at dksX2_copy_9 16 rfl rfl)
theorem dX2_copy_222 : decode cX2_copy 222 = .ok (.putfield 123, 3) := dk_181 0 123 (dk_at dksX2_copy_9 19 rfl rfl)
theorem dX2_copy_225 : decode cX2_copy 225 = .ok (.aload_n 1, 1) := dk_43 (dk_at dksX2_copy_9 22 rfl rfl)
theorem dX2_copy_226 : decode cX2_copy 226 = .ok (.areturn, 1) := dk_176 (dk_at dksX2_copy_9 23 rfl rfl)
def dkwX2_join_1 : List UInt8 := [87, 43, 198, 0, 12, 43, 180, 0, 133, 44, 182, 0, 110, 87, 44, 176]
abbrev dktX2_join_1 : List UInt8 := dkwX2_join_1 ++ []
def dkwX2_join_0 : List UInt8 := [187, 0, 64, 89, 42, 180, 0, 12, 182, 0, 126, 43, 183, 0, 130, 77, 42, 180, 0, 12, 44, 182, 0, 110]
abbrev dktX2_join_0 : List UInt8 := dkwX2_join_0 ++ dktX2_join_1
theorem dksX2_join_0 : cX2_join.data.toList.drop 0 = dktX2_join_0 := by decide +kernel
theorem dksX2_join_1 : cX2_join.data.toList.drop 24 = dktX2_join_1 := dk_seg dksX2_join_0 24 rfl rfl
theorem dX2_join_0 : decode cX2_join 0 = .ok (.new 64, 3) := dk_187 0 64 (dk_at dksX2_join_0 0 rfl rfl)
theorem dX2_join_3 : decode cX2_join 3 = .ok (.dup, 1) := dk_89 (dk_at dksX2_join_0 3 rfl rfl)
theorem dX2_join_4 : decode cX2_join 4 = .ok (.aload_n 0, 1) := dk_42 (dk_at dksX2_join_0 4 rfl rfl)
theorem dX2_join_5 : decode cX2_join 5 = .ok (.getfield 12, 3) := dk_180 0 12 (dk_at dksX2_join_0 5 rfl rfl)
theorem dX2_join_8 : decode cX2_join 8 = .ok (.invokevirtual 126, 3) := dk_182 0 126 (dk_at dksX2_join_0 8 rfl rfl)
theorem dX2_join_11 : decode cX2_join 11 = .ok (.aload_n 1, 1) := dk_43 (dk_at dksX2_join_0 11 rfl rfl)
theorem dX2_join_12 : decode cX2_join 12 = .ok (.invokespecial 130, 3) := dk_183 0 130 (dk_at dksX2_join_0 12 rfl rfl)
theorem dX2_join_15 : decode cX2_join 15 = .ok (.astore_n 2, 1) := dk_77 (dk_at dksX2_join_0 15 rfl rfl)
theorem dX2_join_16 : decode cX2_join 16 = .ok (.aload_n 0, 1) := dk_42 (dk_at dksX2_join_0 16 rfl rfl)
theorem dX2_join_17 : decode cX2_join 17 = .ok (.getfield 12, 3) := dk_180 0 12 (dk_at dksX2_join_0 17 rfl rfl)
theorem dX2_join_20 : decode cX2_join 20 = .ok (.aload_n 2, 1) := dk_44 (dk_at dksX2_join_0 20 rfl rfl)
theorem dX2_join_21 : decode cX2_join 21 = .ok (.invokevirtual 110, 3) := dk_182 0 110 (dk_at dksX2_join_0 21 rfl rfl)
theorem dX2_join_24 : decode cX2_join 24 = .ok (.pop, 1) := dk_87 (dk_at dksX2_join_1 0 rfl rfl)
theorem dX2_join_25 : decode cX2_join 25 = .ok (.aload_n 1, 1) := dk_43 (dk_at dksX2_join_1 1 rfl rfl)
theorem dX2_join_26 : decode cX2_join 26 = .ok (.ifnull 12, 3) := dk_198 0 12 (dk_at dksX2_join_1 2 rfl rfl)
theorem dX2_join_29 : decode cX2_join 29 = .ok (.aload_n 1, 1) := dk_43 (dk_at dksX2_join_1 5 rfl rfl)
theorem dX2_join_30 : decode cX2_join 30 = .ok (.getfield 133, 3) := dk_180 0 133 (dk_at dksX2_join_1 6 rfl rfl)
theorem dX2_join_33 : decode cX2_join 33 = .ok (.aload_n 2, 1) := dk_44 (dk_at dksX2_join_1 9 rfl rfl)
theorem dX2_join_34 : decode cX2_join 34 = .ok (.invokevirtual 110, 3) := dk_182 0 110 (dk_at dksX2_join_1 10 rfl rfl)
theorem dX2_join_37 : decode cX2_join 37 = .ok (.pop, 1) := dk_87 (dk_at dksX2_join_1 13 rfl rfl)
theorem dX2_join_38 : decode cX2_join 38 = .ok (.aload_n 2, 1) := dk_44 (dk_at dksX2_join_1 14 rfl rfl)
theorem dX2_join_39 : decode cX2_join 39 = .ok (.areturn, 1) := dk_176 (dk_at dksX2_join_1 15 rfl rfl)
def dkwX2_hasPerson_0 : List UInt8 := [27, 3, 42, 180, 0, 12, 182, 0, 126, 4, 100, 184, 0, 136, 172]
abbrev dktX2_hasPerson_0 : List UInt8 := dkwX2_hasPerson_0 ++ []
theorem dksX2_hasPerson_0 : cX2_hasPerson.data.toList.drop 0 = dktX2_hasPerson_0 := by decide +kernel
theorem dX2_hasPerson_0 : decode cX2_hasPerson 0 = .ok (.iload_n 1, 1) := dk_27 (dk_at dksX2_hasPerson_0 0 rfl rfl)
theorem dX2_hasPerson_1 : decode cX2_hasPerson 1 = .ok (.iconst 0, 1) := dk_3 (dk_at dksX2_hasPerson_0 1 rfl rfl)
theorem dX2_hasPerson_2 : decode cX2_hasPerson 2 = .ok (.aload_n 0, 1) := dk_42 (dk_at dksX2_hasPerson_0 2 rfl rfl)
theorem dX2_hasPerson_3 : decode cX2_hasPerson 3 = .ok (.getfield 12, 3) := dk_180 0 12 (dk_at dksX2_hasPerson_0 3 rfl rfl)
theorem dX2_hasPerson_6 : decode cX2_hasPerson 6 = .ok (.invokevirtual 126, 3) := dk_182 0 126 (dk_at dksX2_hasPerson_0 6 rfl rfl)
theorem dX2_hasPerson_9 : decode cX2_hasPerson 9 = .ok (.iconst 1, 1) := dk_4 (dk_at dksX2_hasPerson_0 9 rfl rfl)
theorem dX2_hasPerson_10 : decode cX2_hasPerson 10 = .ok (.isub, 1) := dk_100 (dk_at dksX2_hasPerson_0 10 rfl rfl)
theorem dX2_hasPerson_11 : decode cX2_hasPerson 11 = .ok (.invokestatic 136, 3) := dk_184 0 136 (dk_at dksX2_hasPerson_0 11 rfl rfl)
theorem dX2_hasPerson_14 : decode cX2_hasPerson 14 = .ok (.ireturn, 1) := dk_172 (dk_at dksX2_hasPerson_0 14 rfl rfl)
def dkwX2_hasHabit_0 : List UInt8 := [27, 3, 42, 180, 0, 18, 182, 0, 126, 4, 100, 184, 0, 136, 172]
abbrev dktX2_hasHabit_0 : List UInt8 := dkwX2_hasHabit_0 ++ []
theorem dksX2_hasHabit_0 : cX2_hasHabit.data.toList.drop 0 = dktX2_hasHabit_0 := by decide +kernel
theorem dX2_hasHabit_0 : decode cX2_hasHabit 0 = .ok (.iload_n 1, 1) := dk_27 (dk_at dksX2_hasHabit_0 0 rfl rfl)
theorem dX2_hasHabit_1 : decode cX2_hasHabit 1 = .ok (.iconst 0, 1) := dk_3 (dk_at dksX2_hasHabit_0 1 rfl rfl)
theorem dX2_hasHabit_2 : decode cX2_hasHabit 2 = .ok (.aload_n 0, 1) := dk_42 (dk_at dksX2_hasHabit_0 2 rfl rfl)
theorem dX2_hasHabit_3 : decode cX2_hasHabit 3 = .ok (.getfield 18, 3) := dk_180 0 18 (dk_at dksX2_hasHabit_0 3 rfl rfl)
theorem dX2_hasHabit_6 : decode cX2_hasHabit 6 = .ok (.invokevirtual 126, 3) := dk_182 0 126 (dk_at dksX2_hasHabit_0 6 rfl rfl)
theorem dX2_hasHabit_9 : decode cX2_hasHabit 9 = .ok (.iconst 1, 1) := dk_4 (dk_at dksX2_hasHabit_0 9 rfl rfl)
theorem dX2_hasHabit_10 : decode cX2_hasHabit 10 = .ok (.isub, 1) := dk_100 (dk_at dksX2_hasHabit_0 10 rfl rfl)
theorem dX2_hasHabit_11 : decode cX2_hasHabit 11 = .ok (.invokestatic 136, 3) := dk_184 0 136 (dk_at dksX2_hasHabit_0 11 rfl rfl)
theorem dX2_hasHabit_14 : decode cX2_hasHabit 14 = .ok (.ireturn, 1) := dk_172 (dk_at dksX2_hasHabit_0 14 rfl rfl)
def dkwX2_addFounder_0 : List UInt8 := [42, 182, 0, 207, 42, 1, 182, 0, 78, 180, 0, 70, 172]
abbrev dktX2_addFounder_0 : List UInt8 := dkwX2_addFounder_0 ++ []
theorem dksX2_addFounder_0 : cX2_addFounder.data.toList.drop 0 = dktX2_addFounder_0 := by decide +kernel
theorem dX2_addFounder_0 : decode cX2_addFounder 0 = .ok (.aload_n 0, 1) := dk_42 (dk_at dksX2_addFounder_0 0 rfl rfl)
theorem dX2_addFounder_1 : decode cX2_addFounder 1 = .ok (.invokevirtual 207, 3) := dk_182 0 207 (dk_at dksX2_addFounder_0 1 rfl rfl)
theorem dX2_addFounder_4 : decode cX2_addFounder 4 = .ok (.aload_n 0, 1) := dk_42 (dk_at dksX2_addFounder_0 4 rfl rfl)
theorem dX2_addFounder_5 : decode cX2_addFounder 5 = .ok (.aconst_null, 1) := dk_1 (dk_at dksX2_addFounder_0 5 rfl rfl)
theorem dX2_addFounder_6 : decode cX2_addFounder 6 = .ok (.invokevirtual 78, 3) := dk_182 0 78 (dk_at dksX2_addFounder_0 6 rfl rfl)
theorem dX2_addFounder_9 : decode cX2_addFounder 9 = .ok (.getfield 70, 3) := dk_180 0 70 (dk_at dksX2_addFounder_0 9 rfl rfl)
theorem dX2_addFounder_12 : decode cX2_addFounder 12 = .ok (.ireturn, 1) := dk_172 (dk_at dksX2_addFounder_0 12 rfl rfl)
def dkwX2_requireRoom_0 : List UInt8 := [42, 180, 0, 12, 182, 0, 126, 16, 16, 160, 0, 7, 4, 167, 0, 4, 3, 4, 16, 16, 184, 0, 203, 177]
abbrev dktX2_requireRoom_0 : List UInt8 := dkwX2_requireRoom_0 ++ []
theorem dksX2_requireRoom_0 : cX2_requireRoom.data.toList.drop 0 = dktX2_requireRoom_0 := by decide +kernel
theorem dX2_requireRoom_0 : decode cX2_requireRoom 0 = .ok (.aload_n 0, 1) := dk_42 (dk_at dksX2_requireRoom_0 0 rfl rfl)
theorem dX2_requireRoom_1 : decode cX2_requireRoom 1 = .ok (.getfield 12, 3) := dk_180 0 12 (dk_at dksX2_requireRoom_0 1 rfl rfl)
theorem dX2_requireRoom_4 : decode cX2_requireRoom 4 = .ok (.invokevirtual 126, 3) := dk_182 0 126 (dk_at dksX2_requireRoom_0 4 rfl rfl)
theorem dX2_requireRoom_7 : decode cX2_requireRoom 7 = .ok (.bipush 16, 2) := dk_16 16 (dk_at dksX2_requireRoom_0 7 rfl rfl)
theorem dX2_requireRoom_9 : decode cX2_requireRoom 9 = .ok (.if_icmp .ne 7, 3) := dk_160 0 7 (dk_at dksX2_requireRoom_0 9 rfl rfl)
theorem dX2_requireRoom_12 : decode cX2_requireRoom 12 = .ok (.iconst 1, 1) := dk_4 (dk_at dksX2_requireRoom_0 12 rfl rfl)
theorem dX2_requireRoom_13 : decode cX2_requireRoom 13 = .ok (.goto 4, 3) := dk_167 0 4 (dk_at dksX2_requireRoom_0 13 rfl rfl)
theorem dX2_requireRoom_16 : decode cX2_requireRoom 16 = .ok (.iconst 0, 1) := dk_3 (dk_at dksX2_requireRoom_0 16 rfl rfl)
theorem dX2_requireRoom_17 : decode cX2_requireRoom 17 = .ok (.iconst 1, 1) := dk_4 (dk_at dksX2_requireRoom_0 17 rfl rfl)
theorem dX2_requireRoom_18 : decode cX2_requireRoom 18 = .ok (.bipush 16, 2) := dk_16 16 (dk_at dksX2_requireRoom_0 18 rfl rfl)
theorem dX2_requireRoom_20 : decode cX2_requireRoom 20 = .ok (.invokestatic 203, 3) := dk_184 0 203 (dk_at dksX2_requireRoom_0 20 rfl rfl)
theorem dX2_requireRoom_23 : decode cX2_requireRoom 23 = .ok (.return_, 1) := dk_177 (dk_at dksX2_requireRoom_0 23 rfl rfl)
def dkwX2_addChild_1 : List UInt8 := [182, 0, 78, 180, 0, 70, 172]
abbrev dktX2_addChild_1 : List UInt8 := dkwX2_addChild_1 ++ []
def dkwX2_addChild_0 : List UInt8 := [42, 180, 0, 12, 27, 182, 0, 74, 192, 0, 64, 77, 42, 44, 182, 0, 210, 42, 182, 0, 207, 42, 44]
abbrev dktX2_addChild_0 : List UInt8 := dkwX2_addChild_0 ++ dktX2_addChild_1
theorem dksX2_addChild_0 : cX2_addChild.data.toList.drop 0 = dktX2_addChild_0 := by decide +kernel
theorem dksX2_addChild_1 : cX2_addChild.data.toList.drop 23 = dktX2_addChild_1 := dk_seg dksX2_addChild_0 23 rfl rfl
theorem dX2_addChild_0 : decode cX2_addChild 0 = .ok (.aload_n 0, 1) := dk_42 (dk_at dksX2_addChild_0 0 rfl rfl)
theorem dX2_addChild_1 : decode cX2_addChild 1 = .ok (.getfield 12, 3) := dk_180 0 12 (dk_at dksX2_addChild_0 1 rfl rfl)
theorem dX2_addChild_4 : decode cX2_addChild 4 = .ok (.iload_n 1, 1) := dk_27 (dk_at dksX2_addChild_0 4 rfl rfl)
theorem dX2_addChild_5 : decode cX2_addChild 5 = .ok (.invokevirtual 74, 3) := dk_182 0 74 (dk_at dksX2_addChild_0 5 rfl rfl)
theorem dX2_addChild_8 : decode cX2_addChild 8 = .ok (.checkcast 64, 3) := dk_192 0 64 (dk_at dksX2_addChild_0 8 rfl rfl)
theorem dX2_addChild_11 : decode cX2_addChild 11 = .ok (.astore_n 2, 1) := dk_77 (dk_at dksX2_addChild_0 11 rfl rfl)
theorem dX2_addChild_12 : decode cX2_addChild 12 = .ok (.aload_n 0, 1) := dk_42 (dk_at dksX2_addChild_0 12 rfl rfl)
theorem dX2_addChild_13 : decode cX2_addChild 13 = .ok (.aload_n 2, 1) := dk_44 (dk_at dksX2_addChild_0 13 rfl rfl)
theorem dX2_addChild_14 : decode cX2_addChild 14 = .ok (.invokevirtual 210, 3) := dk_182 0 210 (dk_at dksX2_addChild_0 14 rfl rfl)
theorem dX2_addChild_17 : decode cX2_addChild 17 = .ok (.aload_n 0, 1) := dk_42 (dk_at dksX2_addChild_0 17 rfl rfl)
theorem dX2_addChild_18 : decode cX2_addChild 18 = .ok (.invokevirtual 207, 3) := dk_182 0 207 (dk_at dksX2_addChild_0 18 rfl rfl)
theorem dX2_addChild_21 : decode cX2_addChild 21 = .ok (.aload_n 0, 1) := dk_42 (dk_at dksX2_addChild_0 21 rfl rfl)
theorem dX2_addChild_22 : decode cX2_addChild 22 = .ok (.aload_n 2, 1) := dk_44 (dk_at dksX2_addChild_0 22 rfl rfl)
theorem dX2_addChild_23 : decode cX2_addChild 23 = .ok (.invokevirtual 78, 3) := dk_182 0 78 (dk_at dksX2_addChild_1 0 rfl rfl)
theorem dX2_addChild_26 : decode cX2_addChild 26 = .ok (.getfield 70, 3) := dk_180 0 70 (dk_at dksX2_addChild_1 3 rfl rfl)
theorem dX2_addChild_29 : decode cX2_addChild 29 = .ok (.ireturn, 1) := dk_172 (dk_at dksX2_addChild_1 6 rfl rfl)
def dkwX2_requireAlive_0 : List UInt8 := [43, 180, 0, 82, 154, 0, 7, 4, 167, 0, 4, 3, 6, 43, 180, 0, 70, 184, 0, 203, 177]
abbrev dktX2_requireAlive_0 : List UInt8 := dkwX2_requireAlive_0 ++ []
theorem dksX2_requireAlive_0 : cX2_requireAlive.data.toList.drop 0 = dktX2_requireAlive_0 := by decide +kernel
theorem dX2_requireAlive_0 : decode cX2_requireAlive 0 = .ok (.aload_n 1, 1) := dk_43 (dk_at dksX2_requireAlive_0 0 rfl rfl)
theorem dX2_requireAlive_1 : decode cX2_requireAlive 1 = .ok (.getfield 82, 3) := dk_180 0 82 (dk_at dksX2_requireAlive_0 1 rfl rfl)
theorem dX2_requireAlive_4 : decode cX2_requireAlive 4 = .ok (.ifCond .ne 7, 3) := dk_154 0 7 (dk_at dksX2_requireAlive_0 4 rfl rfl)
theorem dX2_requireAlive_7 : decode cX2_requireAlive 7 = .ok (.iconst 1, 1) := dk_4 (dk_at dksX2_requireAlive_0 7 rfl rfl)
theorem dX2_requireAlive_8 : decode cX2_requireAlive 8 = .ok (.goto 4, 3) := dk_167 0 4 (dk_at dksX2_requireAlive_0 8 rfl rfl)
theorem dX2_requireAlive_11 : decode cX2_requireAlive 11 = .ok (.iconst 0, 1) := dk_3 (dk_at dksX2_requireAlive_0 11 rfl rfl)
theorem dX2_requireAlive_12 : decode cX2_requireAlive 12 = .ok (.iconst 3, 1) := dk_6 (dk_at dksX2_requireAlive_0 12 rfl rfl)
theorem dX2_requireAlive_13 : decode cX2_requireAlive 13 = .ok (.aload_n 1, 1) := dk_43 (dk_at dksX2_requireAlive_0 13 rfl rfl)
theorem dX2_requireAlive_14 : decode cX2_requireAlive 14 = .ok (.getfield 70, 3) := dk_180 0 70 (dk_at dksX2_requireAlive_0 14 rfl rfl)
theorem dX2_requireAlive_17 : decode cX2_requireAlive 17 = .ok (.invokestatic 203, 3) := dk_184 0 203 (dk_at dksX2_requireAlive_0 17 rfl rfl)
theorem dX2_requireAlive_20 : decode cX2_requireAlive 20 = .ok (.return_, 1) := dk_177 (dk_at dksX2_requireAlive_0 20 rfl rfl)
def dkwX2_bury_4 : List UInt8 := [184, 0, 164, 96, 62, 167, 255, 192, 29, 172]
abbrev dktX2_bury_4 : List UInt8 := dkwX2_bury_4 ++ []
def dkwX2_bury_3 : List UInt8 := [25, 5, 180, 0, 98, 153, 0, 11, 42, 44, 182, 0, 182, 167, 0, 8, 42, 44, 182, 0, 214, 182, 0, 217]
abbrev dktX2_bury_3 : List UInt8 := dkwX2_bury_3 ++ dktX2_bury_4
def dkwX2_bury_2 : List UInt8 := [185, 0, 60, 1, 0, 192, 0, 86, 58, 5, 25, 5, 180, 0, 107, 44, 166, 0, 36, 29, 42, 25, 5]
abbrev dktX2_bury_2 : List UInt8 := dkwX2_bury_2 ++ dktX2_bury_3
def dkwX2_bury_1 : List UInt8 := [42, 180, 0, 18, 182, 0, 50, 58, 4, 25, 4, 185, 0, 54, 1, 0, 153, 0, 60, 25, 4]
abbrev dktX2_bury_1 : List UInt8 := dkwX2_bury_1 ++ dktX2_bury_2
def dkwX2_bury_0 : List UInt8 := [42, 180, 0, 12, 27, 182, 0, 74, 192, 0, 64, 77, 42, 44, 182, 0, 210, 44, 3, 181, 0, 82, 3, 62]
abbrev dktX2_bury_0 : List UInt8 := dkwX2_bury_0 ++ dktX2_bury_1
theorem dksX2_bury_0 : cX2_bury.data.toList.drop 0 = dktX2_bury_0 := by decide +kernel
theorem dksX2_bury_1 : cX2_bury.data.toList.drop 24 = dktX2_bury_1 := dk_seg dksX2_bury_0 24 rfl rfl
theorem dksX2_bury_2 : cX2_bury.data.toList.drop 45 = dktX2_bury_2 := dk_seg dksX2_bury_1 21 rfl rfl
theorem dksX2_bury_3 : cX2_bury.data.toList.drop 68 = dktX2_bury_3 := dk_seg dksX2_bury_2 23 rfl rfl
theorem dksX2_bury_4 : cX2_bury.data.toList.drop 92 = dktX2_bury_4 := dk_seg dksX2_bury_3 24 rfl rfl
theorem dX2_bury_0 : decode cX2_bury 0 = .ok (.aload_n 0, 1) := dk_42 (dk_at dksX2_bury_0 0 rfl rfl)
theorem dX2_bury_1 : decode cX2_bury 1 = .ok (.getfield 12, 3) := dk_180 0 12 (dk_at dksX2_bury_0 1 rfl rfl)
theorem dX2_bury_4 : decode cX2_bury 4 = .ok (.iload_n 1, 1) := dk_27 (dk_at dksX2_bury_0 4 rfl rfl)
theorem dX2_bury_5 : decode cX2_bury 5 = .ok (.invokevirtual 74, 3) := dk_182 0 74 (dk_at dksX2_bury_0 5 rfl rfl)
theorem dX2_bury_8 : decode cX2_bury 8 = .ok (.checkcast 64, 3) := dk_192 0 64 (dk_at dksX2_bury_0 8 rfl rfl)
theorem dX2_bury_11 : decode cX2_bury 11 = .ok (.astore_n 2, 1) := dk_77 (dk_at dksX2_bury_0 11 rfl rfl)
theorem dX2_bury_12 : decode cX2_bury 12 = .ok (.aload_n 0, 1) := dk_42 (dk_at dksX2_bury_0 12 rfl rfl)
theorem dX2_bury_13 : decode cX2_bury 13 = .ok (.aload_n 2, 1) := dk_44 (dk_at dksX2_bury_0 13 rfl rfl)
theorem dX2_bury_14 : decode cX2_bury 14 = .ok (.invokevirtual 210, 3) := dk_182 0 210 (dk_at dksX2_bury_0 14 rfl rfl)
theorem dX2_bury_17 : decode cX2_bury 17 = .ok (.aload_n 2, 1) := dk_44 (dk_at dksX2_bury_0 17 rfl rfl)
theorem dX2_bury_18 : decode cX2_bury 18 = .ok (.iconst 0, 1) := dk_3 (dk_at dksX2_bury_0 18 rfl rfl)
theorem dX2_bury_19 : decode cX2_bury 19 = .ok (.putfield 82, 3) := dk_181 0 82 (dk_at dksX2_bury_0 19 rfl rfl)
theorem dX2_bury_22 : decode cX2_bury 22 = .ok (.iconst 0, 1) := dk_3 (dk_at dksX2_bury_0 22 rfl rfl)
theorem dX2_bury_23 : decode cX2_bury 23 = .ok (.istore_n 3, 1) := dk_62 (dk_at dksX2_bury_0 23 rfl rfl)
theorem dX2_bury_24 : decode cX2_bury 24 = .ok (.aload_n 0, 1) := dk_42 (dk_at dksX2_bury_1 0 rfl rfl)
theorem dX2_bury_25 : decode cX2_bury 25 = .ok (.getfield 18, 3) := dk_180 0 18 (dk_at dksX2_bury_1 1 rfl rfl)
theorem dX2_bury_28 : decode cX2_bury 28 = .ok (.invokevirtual 50, 3) := dk_182 0 50 (dk_at dksX2_bury_1 4 rfl rfl)
theorem dX2_bury_31 : decode cX2_bury 31 = .ok (.astore 4, 2) := dk_58 4 (dk_at dksX2_bury_1 7 rfl rfl)
theorem dX2_bury_33 : decode cX2_bury 33 = .ok (.aload 4, 2) := dk_25 4 (dk_at dksX2_bury_1 9 rfl rfl)
theorem dX2_bury_35 : decode cX2_bury 35 = .ok (.invokeinterface 54 1, 5) := by decide +kernel
theorem dX2_bury_40 : decode cX2_bury 40 = .ok (.ifCond .eq 60, 3) := dk_153 0 60 (dk_at dksX2_bury_1 16 rfl rfl)
theorem dX2_bury_43 : decode cX2_bury 43 = .ok (.aload 4, 2) := dk_25 4 (dk_at dksX2_bury_1 19 rfl rfl)
theorem dX2_bury_45 : decode cX2_bury 45 = .ok (.invokeinterface 60 1, 5) := by decide +kernel
theorem dX2_bury_50 : decode cX2_bury 50 = .ok (.checkcast 86, 3) := dk_192 0 86 (dk_at dksX2_bury_2 5 rfl rfl)
theorem dX2_bury_53 : decode cX2_bury 53 = .ok (.astore 5, 2) := dk_58 5 (dk_at dksX2_bury_2 8 rfl rfl)
theorem dX2_bury_55 : decode cX2_bury 55 = .ok (.aload 5, 2) := dk_25 5 (dk_at dksX2_bury_2 10 rfl rfl)
theorem dX2_bury_57 : decode cX2_bury 57 = .ok (.getfield 107, 3) := dk_180 0 107 (dk_at dksX2_bury_2 12 rfl rfl)
theorem dX2_bury_60 : decode cX2_bury 60 = .ok (.aload_n 2, 1) := dk_44 (dk_at dksX2_bury_2 15 rfl rfl)
theorem dX2_bury_61 : decode cX2_bury 61 = .ok (.if_acmp .ne 36, 3) := dk_166 0 36 (dk_at dksX2_bury_2 16 rfl rfl)
theorem dX2_bury_64 : decode cX2_bury 64 = .ok (.iload_n 3, 1) := dk_29 (dk_at dksX2_bury_2 19 rfl rfl)
theorem dX2_bury_65 : decode cX2_bury 65 = .ok (.aload_n 0, 1) := dk_42 (dk_at dksX2_bury_2 20 rfl rfl)
theorem dX2_bury_66 : decode cX2_bury 66 = .ok (.aload 5, 2) := dk_25 5 (dk_at dksX2_bury_2 21 rfl rfl)
theorem dX2_bury_68 : decode cX2_bury 68 = .ok (.aload 5, 2) := dk_25 5 (dk_at dksX2_bury_3 0 rfl rfl)
theorem dX2_bury_70 : decode cX2_bury 70 = .ok (.getfield 98, 3) := dk_180 0 98 (dk_at dksX2_bury_3 2 rfl rfl)
theorem dX2_bury_73 : decode cX2_bury 73 = .ok (.ifCond .eq 11, 3) := dk_153 0 11 (dk_at dksX2_bury_3 5 rfl rfl)
theorem dX2_bury_76 : decode cX2_bury 76 = .ok (.aload_n 0, 1) := dk_42 (dk_at dksX2_bury_3 8 rfl rfl)
theorem dX2_bury_77 : decode cX2_bury 77 = .ok (.aload_n 2, 1) := dk_44 (dk_at dksX2_bury_3 9 rfl rfl)
theorem dX2_bury_78 : decode cX2_bury 78 = .ok (.invokevirtual 182, 3) := dk_182 0 182 (dk_at dksX2_bury_3 10 rfl rfl)
theorem dX2_bury_81 : decode cX2_bury 81 = .ok (.goto 8, 3) := dk_167 0 8 (dk_at dksX2_bury_3 13 rfl rfl)
theorem dX2_bury_84 : decode cX2_bury 84 = .ok (.aload_n 0, 1) := dk_42 (dk_at dksX2_bury_3 16 rfl rfl)
theorem dX2_bury_85 : decode cX2_bury 85 = .ok (.aload_n 2, 1) := dk_44 (dk_at dksX2_bury_3 17 rfl rfl)
theorem dX2_bury_86 : decode cX2_bury 86 = .ok (.invokevirtual 214, 3) := dk_182 0 214 (dk_at dksX2_bury_3 18 rfl rfl)
theorem dX2_bury_89 : decode cX2_bury 89 = .ok (.invokevirtual 217, 3) := dk_182 0 217 (dk_at dksX2_bury_3 21 rfl rfl)
theorem dX2_bury_92 : decode cX2_bury 92 = .ok (.invokestatic 164, 3) := dk_184 0 164 (dk_at dksX2_bury_4 0 rfl rfl)
theorem dX2_bury_95 : decode cX2_bury 95 = .ok (.iadd, 1) := dk_96 (dk_at dksX2_bury_4 3 rfl rfl)
theorem dX2_bury_96 : decode cX2_bury 96 = .ok (.istore_n 3, 1) := dk_62 (dk_at dksX2_bury_4 4 rfl rfl)
theorem dX2_bury_97 : decode cX2_bury 97 = .ok (.goto (-64), 3) := dk_167 255 192 (dk_at dksX2_bury_4 5 rfl rfl)
theorem dX2_bury_100 : decode cX2_bury 100 = .ok (.iload_n 3, 1) := dk_29 (dk_at dksX2_bury_4 8 rfl rfl)
theorem dX2_bury_101 : decode cX2_bury 101 = .ok (.ireturn, 1) := dk_172 (dk_at dksX2_bury_4 9 rfl rfl)
def dkwX2_pass_3 : List UInt8 := [96, 181, 0, 120, 4, 172]
abbrev dktX2_pass_3 : List UInt8 := dkwX2_pass_3 ++ []
def dkwX2_pass_2 : List UInt8 := [180, 0, 93, 43, 180, 0, 93, 96, 184, 0, 228, 181, 0, 93, 43, 182, 0, 221, 42, 89, 180, 0, 120, 4]
abbrev dktX2_pass_2 : List UInt8 := dkwX2_pass_2 ++ dktX2_pass_3
def dkwX2_pass_1 : List UInt8 := [180, 0, 89, 182, 0, 224, 78, 45, 199, 0, 11, 43, 44, 181, 0, 107, 167, 0, 35, 45, 16, 9, 45]
abbrev dktX2_pass_1 : List UInt8 := dkwX2_pass_1 ++ dktX2_pass_2
def dkwX2_pass_0 : List UInt8 := [44, 199, 0, 19, 43, 182, 0, 221, 42, 89, 180, 0, 123, 4, 96, 181, 0, 123, 3, 172, 42, 44, 43]
abbrev dktX2_pass_0 : List UInt8 := dkwX2_pass_0 ++ dktX2_pass_1
theorem dksX2_pass_0 : cX2_pass.data.toList.drop 0 = dktX2_pass_0 := by decide +kernel
theorem dksX2_pass_1 : cX2_pass.data.toList.drop 23 = dktX2_pass_1 := dk_seg dksX2_pass_0 23 rfl rfl
theorem dksX2_pass_2 : cX2_pass.data.toList.drop 46 = dktX2_pass_2 := dk_seg dksX2_pass_1 23 rfl rfl
theorem dksX2_pass_3 : cX2_pass.data.toList.drop 70 = dktX2_pass_3 := dk_seg dksX2_pass_2 24 rfl rfl
theorem dX2_pass_0 : decode cX2_pass 0 = .ok (.aload_n 2, 1) := dk_44 (dk_at dksX2_pass_0 0 rfl rfl)
theorem dX2_pass_1 : decode cX2_pass 1 = .ok (.ifnonnull 19, 3) := dk_199 0 19 (dk_at dksX2_pass_0 1 rfl rfl)
theorem dX2_pass_4 : decode cX2_pass 4 = .ok (.aload_n 1, 1) := dk_43 (dk_at dksX2_pass_0 4 rfl rfl)
theorem dX2_pass_5 : decode cX2_pass 5 = .ok (.invokevirtual 221, 3) := dk_182 0 221 (dk_at dksX2_pass_0 5 rfl rfl)
theorem dX2_pass_8 : decode cX2_pass 8 = .ok (.aload_n 0, 1) := dk_42 (dk_at dksX2_pass_0 8 rfl rfl)
theorem dX2_pass_9 : decode cX2_pass 9 = .ok (.dup, 1) := dk_89 (dk_at dksX2_pass_0 9 rfl rfl)
theorem dX2_pass_10 : decode cX2_pass 10 = .ok (.getfield 123, 3) := dk_180 0 123 (dk_at dksX2_pass_0 10 rfl rfl)
theorem dX2_pass_13 : decode cX2_pass 13 = .ok (.iconst 1, 1) := dk_4 (dk_at dksX2_pass_0 13 rfl rfl)
theorem dX2_pass_14 : decode cX2_pass 14 = .ok (.iadd, 1) := dk_96 (dk_at dksX2_pass_0 14 rfl rfl)
theorem dX2_pass_15 : decode cX2_pass 15 = .ok (.putfield 123, 3) := dk_181 0 123 (dk_at dksX2_pass_0 15 rfl rfl)
theorem dX2_pass_18 : decode cX2_pass 18 = .ok (.iconst 0, 1) := dk_3 (dk_at dksX2_pass_0 18 rfl rfl)
theorem dX2_pass_19 : decode cX2_pass 19 = .ok (.ireturn, 1) := dk_172 (dk_at dksX2_pass_0 19 rfl rfl)
theorem dX2_pass_20 : decode cX2_pass 20 = .ok (.aload_n 0, 1) := dk_42 (dk_at dksX2_pass_0 20 rfl rfl)
theorem dX2_pass_21 : decode cX2_pass 21 = .ok (.aload_n 2, 1) := dk_44 (dk_at dksX2_pass_0 21 rfl rfl)
theorem dX2_pass_22 : decode cX2_pass 22 = .ok (.aload_n 1, 1) := dk_43 (dk_at dksX2_pass_0 22 rfl rfl)
theorem dX2_pass_23 : decode cX2_pass 23 = .ok (.getfield 89, 3) := dk_180 0 89 (dk_at dksX2_pass_1 0 rfl rfl)
theorem dX2_pass_26 : decode cX2_pass 26 = .ok (.invokevirtual 224, 3) := dk_182 0 224 (dk_at dksX2_pass_1 3 rfl rfl)
theorem dX2_pass_29 : decode cX2_pass 29 = .ok (.astore_n 3, 1) := dk_78 (dk_at dksX2_pass_1 6 rfl rfl)
theorem dX2_pass_30 : decode cX2_pass 30 = .ok (.aload_n 3, 1) := dk_45 (dk_at dksX2_pass_1 7 rfl rfl)
theorem dX2_pass_31 : decode cX2_pass 31 = .ok (.ifnonnull 11, 3) := dk_199 0 11 (dk_at dksX2_pass_1 8 rfl rfl)
theorem dX2_pass_34 : decode cX2_pass 34 = .ok (.aload_n 1, 1) := dk_43 (dk_at dksX2_pass_1 11 rfl rfl)
theorem dX2_pass_35 : decode cX2_pass 35 = .ok (.aload_n 2, 1) := dk_44 (dk_at dksX2_pass_1 12 rfl rfl)
theorem dX2_pass_36 : decode cX2_pass 36 = .ok (.putfield 107, 3) := dk_181 0 107 (dk_at dksX2_pass_1 13 rfl rfl)
theorem dX2_pass_39 : decode cX2_pass 39 = .ok (.goto 35, 3) := dk_167 0 35 (dk_at dksX2_pass_1 16 rfl rfl)
theorem dX2_pass_42 : decode cX2_pass 42 = .ok (.aload_n 3, 1) := dk_45 (dk_at dksX2_pass_1 19 rfl rfl)
theorem dX2_pass_43 : decode cX2_pass 43 = .ok (.bipush 9, 2) := dk_16 9 (dk_at dksX2_pass_1 20 rfl rfl)
theorem dX2_pass_45 : decode cX2_pass 45 = .ok (.aload_n 3, 1) := dk_45 (dk_at dksX2_pass_1 22 rfl rfl)
theorem dX2_pass_46 : decode cX2_pass 46 = .ok (.getfield 93, 3) := dk_180 0 93 (dk_at dksX2_pass_2 0 rfl rfl)
theorem dX2_pass_49 : decode cX2_pass 49 = .ok (.aload_n 1, 1) := dk_43 (dk_at dksX2_pass_2 3 rfl rfl)
theorem dX2_pass_50 : decode cX2_pass 50 = .ok (.getfield 93, 3) := dk_180 0 93 (dk_at dksX2_pass_2 4 rfl rfl)
theorem dX2_pass_53 : decode cX2_pass 53 = .ok (.iadd, 1) := dk_96 (dk_at dksX2_pass_2 7 rfl rfl)
theorem dX2_pass_54 : decode cX2_pass 54 = .ok (.invokestatic 228, 3) := dk_184 0 228 (dk_at dksX2_pass_2 8 rfl rfl)
theorem dX2_pass_57 : decode cX2_pass 57 = .ok (.putfield 93, 3) := dk_181 0 93 (dk_at dksX2_pass_2 11 rfl rfl)
theorem dX2_pass_60 : decode cX2_pass 60 = .ok (.aload_n 1, 1) := dk_43 (dk_at dksX2_pass_2 14 rfl rfl)
theorem dX2_pass_61 : decode cX2_pass 61 = .ok (.invokevirtual 221, 3) := dk_182 0 221 (dk_at dksX2_pass_2 15 rfl rfl)
theorem dX2_pass_64 : decode cX2_pass 64 = .ok (.aload_n 0, 1) := dk_42 (dk_at dksX2_pass_2 18 rfl rfl)
theorem dX2_pass_65 : decode cX2_pass 65 = .ok (.dup, 1) := dk_89 (dk_at dksX2_pass_2 19 rfl rfl)
theorem dX2_pass_66 : decode cX2_pass 66 = .ok (.getfield 120, 3) := dk_180 0 120 (dk_at dksX2_pass_2 20 rfl rfl)
theorem dX2_pass_69 : decode cX2_pass 69 = .ok (.iconst 1, 1) := dk_4 (dk_at dksX2_pass_2 23 rfl rfl)
theorem dX2_pass_70 : decode cX2_pass 70 = .ok (.iadd, 1) := dk_96 (dk_at dksX2_pass_3 0 rfl rfl)
theorem dX2_pass_71 : decode cX2_pass 71 = .ok (.putfield 120, 3) := dk_181 0 120 (dk_at dksX2_pass_3 1 rfl rfl)
theorem dX2_pass_74 : decode cX2_pass 74 = .ok (.iconst 1, 1) := dk_4 (dk_at dksX2_pass_3 4 rfl rfl)
theorem dX2_pass_75 : decode cX2_pass 75 = .ok (.ireturn, 1) := dk_172 (dk_at dksX2_pass_3 5 rfl rfl)
def dkwX2_habitOf_0 : List UInt8 := [42, 43, 28, 186, 0, 157, 0, 0, 182, 0, 160, 176]
abbrev dktX2_habitOf_0 : List UInt8 := dkwX2_habitOf_0 ++ []
theorem dksX2_habitOf_0 : cX2_habitOf.data.toList.drop 0 = dktX2_habitOf_0 := by decide +kernel
theorem dX2_habitOf_0 : decode cX2_habitOf 0 = .ok (.aload_n 0, 1) := dk_42 (dk_at dksX2_habitOf_0 0 rfl rfl)
theorem dX2_habitOf_1 : decode cX2_habitOf 1 = .ok (.aload_n 1, 1) := dk_43 (dk_at dksX2_habitOf_0 1 rfl rfl)
theorem dX2_habitOf_2 : decode cX2_habitOf 2 = .ok (.iload_n 2, 1) := dk_28 (dk_at dksX2_habitOf_0 2 rfl rfl)
theorem dX2_habitOf_3 : decode cX2_habitOf 3 = .ok (.invokedynamic 157, 5) := by decide +kernel
theorem dX2_habitOf_8 : decode cX2_habitOf 8 = .ok (.invokevirtual 160, 3) := dk_182 0 160 (dk_at dksX2_habitOf_0 8 rfl rfl)
theorem dX2_habitOf_11 : decode cX2_habitOf 11 = .ok (.areturn, 1) := dk_176 (dk_at dksX2_habitOf_0 11 rfl rfl)
def dkwX2_lambda_habitOf_5_0 : List UInt8 := [44, 180, 0, 107, 42, 166, 0, 15, 44, 180, 0, 89, 27, 160, 0, 7, 4, 167, 0, 4, 3, 172]
abbrev dktX2_lambda_habitOf_5_0 : List UInt8 := dkwX2_lambda_habitOf_5_0 ++ []
theorem dksX2_lambda_habitOf_5_0 : cX2_lambda_habitOf_5.data.toList.drop 0 = dktX2_lambda_habitOf_5_0 := by decide +kernel
theorem dX2_lambda_habitOf_5_0 : decode cX2_lambda_habitOf_5 0 = .ok (.aload_n 2, 1) := dk_44 (dk_at dksX2_lambda_habitOf_5_0 0 rfl rfl)
theorem dX2_lambda_habitOf_5_1 : decode cX2_lambda_habitOf_5 1 = .ok (.getfield 107, 3) := dk_180 0 107 (dk_at dksX2_lambda_habitOf_5_0 1 rfl rfl)
theorem dX2_lambda_habitOf_5_4 : decode cX2_lambda_habitOf_5 4 = .ok (.aload_n 0, 1) := dk_42 (dk_at dksX2_lambda_habitOf_5_0 4 rfl rfl)
theorem dX2_lambda_habitOf_5_5 : decode cX2_lambda_habitOf_5 5 = .ok (.if_acmp .ne 15, 3) := dk_166 0 15 (dk_at dksX2_lambda_habitOf_5_0 5 rfl rfl)
theorem dX2_lambda_habitOf_5_8 : decode cX2_lambda_habitOf_5 8 = .ok (.aload_n 2, 1) := dk_44 (dk_at dksX2_lambda_habitOf_5_0 8 rfl rfl)
theorem dX2_lambda_habitOf_5_9 : decode cX2_lambda_habitOf_5 9 = .ok (.getfield 89, 3) := dk_180 0 89 (dk_at dksX2_lambda_habitOf_5_0 9 rfl rfl)
theorem dX2_lambda_habitOf_5_12 : decode cX2_lambda_habitOf_5 12 = .ok (.iload_n 1, 1) := dk_27 (dk_at dksX2_lambda_habitOf_5_0 12 rfl rfl)
theorem dX2_lambda_habitOf_5_13 : decode cX2_lambda_habitOf_5 13 = .ok (.if_icmp .ne 7, 3) := dk_160 0 7 (dk_at dksX2_lambda_habitOf_5_0 13 rfl rfl)
theorem dX2_lambda_habitOf_5_16 : decode cX2_lambda_habitOf_5 16 = .ok (.iconst 1, 1) := dk_4 (dk_at dksX2_lambda_habitOf_5_0 16 rfl rfl)
theorem dX2_lambda_habitOf_5_17 : decode cX2_lambda_habitOf_5 17 = .ok (.goto 4, 3) := dk_167 0 4 (dk_at dksX2_lambda_habitOf_5_0 17 rfl rfl)
theorem dX2_lambda_habitOf_5_20 : decode cX2_lambda_habitOf_5 20 = .ok (.iconst 0, 1) := dk_3 (dk_at dksX2_lambda_habitOf_5_0 20 rfl rfl)
theorem dX2_lambda_habitOf_5_21 : decode cX2_lambda_habitOf_5 21 = .ok (.ireturn, 1) := dk_172 (dk_at dksX2_lambda_habitOf_5_0 21 rfl rfl)
def dkwX2_addHabit_3 : List UInt8 := [25, 4, 181, 0, 107, 42, 180, 0, 18, 25, 5, 182, 0, 110, 87, 25, 5, 180, 0, 88, 172]
abbrev dktX2_addHabit_3 : List UInt8 := dkwX2_addHabit_3 ++ []
def dkwX2_addHabit_2 : List UInt8 := [184, 0, 203, 187, 0, 86, 89, 42, 180, 0, 18, 182, 0, 126, 28, 29, 183, 0, 95, 58, 5, 25, 5]
abbrev dktX2_addHabit_2 : List UInt8 := dkwX2_addHabit_2 ++ dktX2_addHabit_3
def dkwX2_addHabit_1 : List UInt8 := [182, 0, 234, 42, 180, 0, 18, 182, 0, 126, 16, 20, 160, 0, 7, 4, 167, 0, 4, 3, 5, 16, 20]
abbrev dktX2_addHabit_1 : List UInt8 := dkwX2_addHabit_1 ++ dktX2_addHabit_2
def dkwX2_addHabit_0 : List UInt8 := [42, 180, 0, 12, 27, 182, 0, 74, 192, 0, 64, 58, 4, 42, 25, 4, 182, 0, 210, 42, 25, 4, 28]
abbrev dktX2_addHabit_0 : List UInt8 := dkwX2_addHabit_0 ++ dktX2_addHabit_1
theorem dksX2_addHabit_0 : cX2_addHabit.data.toList.drop 0 = dktX2_addHabit_0 := by decide +kernel
theorem dksX2_addHabit_1 : cX2_addHabit.data.toList.drop 23 = dktX2_addHabit_1 := dk_seg dksX2_addHabit_0 23 rfl rfl
theorem dksX2_addHabit_2 : cX2_addHabit.data.toList.drop 46 = dktX2_addHabit_2 := dk_seg dksX2_addHabit_1 23 rfl rfl
theorem dksX2_addHabit_3 : cX2_addHabit.data.toList.drop 69 = dktX2_addHabit_3 := dk_seg dksX2_addHabit_2 23 rfl rfl
theorem dX2_addHabit_0 : decode cX2_addHabit 0 = .ok (.aload_n 0, 1) := dk_42 (dk_at dksX2_addHabit_0 0 rfl rfl)
theorem dX2_addHabit_1 : decode cX2_addHabit 1 = .ok (.getfield 12, 3) := dk_180 0 12 (dk_at dksX2_addHabit_0 1 rfl rfl)
theorem dX2_addHabit_4 : decode cX2_addHabit 4 = .ok (.iload_n 1, 1) := dk_27 (dk_at dksX2_addHabit_0 4 rfl rfl)
theorem dX2_addHabit_5 : decode cX2_addHabit 5 = .ok (.invokevirtual 74, 3) := dk_182 0 74 (dk_at dksX2_addHabit_0 5 rfl rfl)
theorem dX2_addHabit_8 : decode cX2_addHabit 8 = .ok (.checkcast 64, 3) := dk_192 0 64 (dk_at dksX2_addHabit_0 8 rfl rfl)
theorem dX2_addHabit_11 : decode cX2_addHabit 11 = .ok (.astore 4, 2) := dk_58 4 (dk_at dksX2_addHabit_0 11 rfl rfl)
theorem dX2_addHabit_13 : decode cX2_addHabit 13 = .ok (.aload_n 0, 1) := dk_42 (dk_at dksX2_addHabit_0 13 rfl rfl)
theorem dX2_addHabit_14 : decode cX2_addHabit 14 = .ok (.aload 4, 2) := dk_25 4 (dk_at dksX2_addHabit_0 14 rfl rfl)
theorem dX2_addHabit_16 : decode cX2_addHabit 16 = .ok (.invokevirtual 210, 3) := dk_182 0 210 (dk_at dksX2_addHabit_0 16 rfl rfl)
theorem dX2_addHabit_19 : decode cX2_addHabit 19 = .ok (.aload_n 0, 1) := dk_42 (dk_at dksX2_addHabit_0 19 rfl rfl)
theorem dX2_addHabit_20 : decode cX2_addHabit 20 = .ok (.aload 4, 2) := dk_25 4 (dk_at dksX2_addHabit_0 20 rfl rfl)
theorem dX2_addHabit_22 : decode cX2_addHabit 22 = .ok (.iload_n 2, 1) := dk_28 (dk_at dksX2_addHabit_0 22 rfl rfl)
theorem dX2_addHabit_23 : decode cX2_addHabit 23 = .ok (.invokevirtual 234, 3) := dk_182 0 234 (dk_at dksX2_addHabit_1 0 rfl rfl)
theorem dX2_addHabit_26 : decode cX2_addHabit 26 = .ok (.aload_n 0, 1) := dk_42 (dk_at dksX2_addHabit_1 3 rfl rfl)
theorem dX2_addHabit_27 : decode cX2_addHabit 27 = .ok (.getfield 18, 3) := dk_180 0 18 (dk_at dksX2_addHabit_1 4 rfl rfl)
theorem dX2_addHabit_30 : decode cX2_addHabit 30 = .ok (.invokevirtual 126, 3) := dk_182 0 126 (dk_at dksX2_addHabit_1 7 rfl rfl)
theorem dX2_addHabit_33 : decode cX2_addHabit 33 = .ok (.bipush 20, 2) := dk_16 20 (dk_at dksX2_addHabit_1 10 rfl rfl)
theorem dX2_addHabit_35 : decode cX2_addHabit 35 = .ok (.if_icmp .ne 7, 3) := dk_160 0 7 (dk_at dksX2_addHabit_1 12 rfl rfl)
theorem dX2_addHabit_38 : decode cX2_addHabit 38 = .ok (.iconst 1, 1) := dk_4 (dk_at dksX2_addHabit_1 15 rfl rfl)
theorem dX2_addHabit_39 : decode cX2_addHabit 39 = .ok (.goto 4, 3) := dk_167 0 4 (dk_at dksX2_addHabit_1 16 rfl rfl)
theorem dX2_addHabit_42 : decode cX2_addHabit 42 = .ok (.iconst 0, 1) := dk_3 (dk_at dksX2_addHabit_1 19 rfl rfl)
theorem dX2_addHabit_43 : decode cX2_addHabit 43 = .ok (.iconst 2, 1) := dk_5 (dk_at dksX2_addHabit_1 20 rfl rfl)
theorem dX2_addHabit_44 : decode cX2_addHabit 44 = .ok (.bipush 20, 2) := dk_16 20 (dk_at dksX2_addHabit_1 21 rfl rfl)
theorem dX2_addHabit_46 : decode cX2_addHabit 46 = .ok (.invokestatic 203, 3) := dk_184 0 203 (dk_at dksX2_addHabit_2 0 rfl rfl)
theorem dX2_addHabit_49 : decode cX2_addHabit 49 = .ok (.new 86, 3) := dk_187 0 86 (dk_at dksX2_addHabit_2 3 rfl rfl)
theorem dX2_addHabit_52 : decode cX2_addHabit 52 = .ok (.dup, 1) := dk_89 (dk_at dksX2_addHabit_2 6 rfl rfl)
theorem dX2_addHabit_53 : decode cX2_addHabit 53 = .ok (.aload_n 0, 1) := dk_42 (dk_at dksX2_addHabit_2 7 rfl rfl)
theorem dX2_addHabit_54 : decode cX2_addHabit 54 = .ok (.getfield 18, 3) := dk_180 0 18 (dk_at dksX2_addHabit_2 8 rfl rfl)
theorem dX2_addHabit_57 : decode cX2_addHabit 57 = .ok (.invokevirtual 126, 3) := dk_182 0 126 (dk_at dksX2_addHabit_2 11 rfl rfl)
theorem dX2_addHabit_60 : decode cX2_addHabit 60 = .ok (.iload_n 2, 1) := dk_28 (dk_at dksX2_addHabit_2 14 rfl rfl)
theorem dX2_addHabit_61 : decode cX2_addHabit 61 = .ok (.iload_n 3, 1) := dk_29 (dk_at dksX2_addHabit_2 15 rfl rfl)
theorem dX2_addHabit_62 : decode cX2_addHabit 62 = .ok (.invokespecial 95, 3) := dk_183 0 95 (dk_at dksX2_addHabit_2 16 rfl rfl)
theorem dX2_addHabit_65 : decode cX2_addHabit 65 = .ok (.astore 5, 2) := dk_58 5 (dk_at dksX2_addHabit_2 19 rfl rfl)
theorem dX2_addHabit_67 : decode cX2_addHabit 67 = .ok (.aload 5, 2) := dk_25 5 (dk_at dksX2_addHabit_2 21 rfl rfl)
theorem dX2_addHabit_69 : decode cX2_addHabit 69 = .ok (.aload 4, 2) := dk_25 4 (dk_at dksX2_addHabit_3 0 rfl rfl)
theorem dX2_addHabit_71 : decode cX2_addHabit 71 = .ok (.putfield 107, 3) := dk_181 0 107 (dk_at dksX2_addHabit_3 2 rfl rfl)
theorem dX2_addHabit_74 : decode cX2_addHabit 74 = .ok (.aload_n 0, 1) := dk_42 (dk_at dksX2_addHabit_3 5 rfl rfl)
theorem dX2_addHabit_75 : decode cX2_addHabit 75 = .ok (.getfield 18, 3) := dk_180 0 18 (dk_at dksX2_addHabit_3 6 rfl rfl)
theorem dX2_addHabit_78 : decode cX2_addHabit 78 = .ok (.aload 5, 2) := dk_25 5 (dk_at dksX2_addHabit_3 9 rfl rfl)
theorem dX2_addHabit_80 : decode cX2_addHabit 80 = .ok (.invokevirtual 110, 3) := dk_182 0 110 (dk_at dksX2_addHabit_3 11 rfl rfl)
theorem dX2_addHabit_83 : decode cX2_addHabit 83 = .ok (.pop, 1) := dk_87 (dk_at dksX2_addHabit_3 14 rfl rfl)
theorem dX2_addHabit_84 : decode cX2_addHabit 84 = .ok (.aload 5, 2) := dk_25 5 (dk_at dksX2_addHabit_3 15 rfl rfl)
theorem dX2_addHabit_86 : decode cX2_addHabit 86 = .ok (.getfield 88, 3) := dk_180 0 88 (dk_at dksX2_addHabit_3 17 rfl rfl)
theorem dX2_addHabit_89 : decode cX2_addHabit 89 = .ok (.ireturn, 1) := dk_172 (dk_at dksX2_addHabit_3 20 rfl rfl)
def dkwX2_requireNoKind_1 : List UInt8 := [167, 0, 7, 45, 180, 0, 88, 184, 0, 203, 177]
abbrev dktX2_requireNoKind_1 : List UInt8 := dkwX2_requireNoKind_1 ++ []
def dkwX2_requireNoKind_0 : List UInt8 := [42, 43, 28, 182, 0, 224, 78, 45, 198, 0, 7, 4, 167, 0, 4, 3, 7, 45, 199, 0, 7, 2]
abbrev dktX2_requireNoKind_0 : List UInt8 := dkwX2_requireNoKind_0 ++ dktX2_requireNoKind_1
theorem dksX2_requireNoKind_0 : cX2_requireNoKind.data.toList.drop 0 = dktX2_requireNoKind_0 := by decide +kernel
theorem dksX2_requireNoKind_1 : cX2_requireNoKind.data.toList.drop 22 = dktX2_requireNoKind_1 := dk_seg dksX2_requireNoKind_0 22 rfl rfl
theorem dX2_requireNoKind_0 : decode cX2_requireNoKind 0 = .ok (.aload_n 0, 1) := dk_42 (dk_at dksX2_requireNoKind_0 0 rfl rfl)
theorem dX2_requireNoKind_1 : decode cX2_requireNoKind 1 = .ok (.aload_n 1, 1) := dk_43 (dk_at dksX2_requireNoKind_0 1 rfl rfl)
theorem dX2_requireNoKind_2 : decode cX2_requireNoKind 2 = .ok (.iload_n 2, 1) := dk_28 (dk_at dksX2_requireNoKind_0 2 rfl rfl)
theorem dX2_requireNoKind_3 : decode cX2_requireNoKind 3 = .ok (.invokevirtual 224, 3) := dk_182 0 224 (dk_at dksX2_requireNoKind_0 3 rfl rfl)
theorem dX2_requireNoKind_6 : decode cX2_requireNoKind 6 = .ok (.astore_n 3, 1) := dk_78 (dk_at dksX2_requireNoKind_0 6 rfl rfl)
theorem dX2_requireNoKind_7 : decode cX2_requireNoKind 7 = .ok (.aload_n 3, 1) := dk_45 (dk_at dksX2_requireNoKind_0 7 rfl rfl)
theorem dX2_requireNoKind_8 : decode cX2_requireNoKind 8 = .ok (.ifnull 7, 3) := dk_198 0 7 (dk_at dksX2_requireNoKind_0 8 rfl rfl)
theorem dX2_requireNoKind_11 : decode cX2_requireNoKind 11 = .ok (.iconst 1, 1) := dk_4 (dk_at dksX2_requireNoKind_0 11 rfl rfl)
theorem dX2_requireNoKind_12 : decode cX2_requireNoKind 12 = .ok (.goto 4, 3) := dk_167 0 4 (dk_at dksX2_requireNoKind_0 12 rfl rfl)
theorem dX2_requireNoKind_15 : decode cX2_requireNoKind 15 = .ok (.iconst 0, 1) := dk_3 (dk_at dksX2_requireNoKind_0 15 rfl rfl)
theorem dX2_requireNoKind_16 : decode cX2_requireNoKind 16 = .ok (.iconst 4, 1) := dk_7 (dk_at dksX2_requireNoKind_0 16 rfl rfl)
theorem dX2_requireNoKind_17 : decode cX2_requireNoKind 17 = .ok (.aload_n 3, 1) := dk_45 (dk_at dksX2_requireNoKind_0 17 rfl rfl)
theorem dX2_requireNoKind_18 : decode cX2_requireNoKind 18 = .ok (.ifnonnull 7, 3) := dk_199 0 7 (dk_at dksX2_requireNoKind_0 18 rfl rfl)
theorem dX2_requireNoKind_21 : decode cX2_requireNoKind 21 = .ok (.iconst (-1), 1) := dk_2 (dk_at dksX2_requireNoKind_0 21 rfl rfl)
theorem dX2_requireNoKind_22 : decode cX2_requireNoKind 22 = .ok (.goto 7, 3) := dk_167 0 7 (dk_at dksX2_requireNoKind_1 0 rfl rfl)
theorem dX2_requireNoKind_25 : decode cX2_requireNoKind 25 = .ok (.aload_n 3, 1) := dk_45 (dk_at dksX2_requireNoKind_1 3 rfl rfl)
theorem dX2_requireNoKind_26 : decode cX2_requireNoKind 26 = .ok (.getfield 88, 3) := dk_180 0 88 (dk_at dksX2_requireNoKind_1 4 rfl rfl)
theorem dX2_requireNoKind_29 : decode cX2_requireNoKind 29 = .ok (.invokestatic 203, 3) := dk_184 0 203 (dk_at dksX2_requireNoKind_1 7 rfl rfl)
theorem dX2_requireNoKind_32 : decode cX2_requireNoKind 32 = .ok (.return_, 1) := dk_177 (dk_at dksX2_requireNoKind_1 10 rfl rfl)
def dkwX2_practise_1 : List UInt8 := [184, 0, 203, 44, 89, 180, 0, 93, 4, 96, 181, 0, 93, 44, 4, 181, 0, 101, 44, 180, 0, 93, 172]
abbrev dktX2_practise_1 : List UInt8 := dkwX2_practise_1 ++ []
def dkwX2_practise_0 : List UInt8 := [42, 27, 182, 0, 238, 77, 44, 180, 0, 93, 16, 9, 160, 0, 7, 4, 167, 0, 4, 3, 16, 6, 16, 9]
abbrev dktX2_practise_0 : List UInt8 := dkwX2_practise_0 ++ dktX2_practise_1
theorem dksX2_practise_0 : cX2_practise.data.toList.drop 0 = dktX2_practise_0 := by decide +kernel
theorem dksX2_practise_1 : cX2_practise.data.toList.drop 24 = dktX2_practise_1 := dk_seg dksX2_practise_0 24 rfl rfl
theorem dX2_practise_0 : decode cX2_practise 0 = .ok (.aload_n 0, 1) := dk_42 (dk_at dksX2_practise_0 0 rfl rfl)
theorem dX2_practise_1 : decode cX2_practise 1 = .ok (.iload_n 1, 1) := dk_27 (dk_at dksX2_practise_0 1 rfl rfl)
theorem dX2_practise_2 : decode cX2_practise 2 = .ok (.invokevirtual 238, 3) := dk_182 0 238 (dk_at dksX2_practise_0 2 rfl rfl)
theorem dX2_practise_5 : decode cX2_practise 5 = .ok (.astore_n 2, 1) := dk_77 (dk_at dksX2_practise_0 5 rfl rfl)
theorem dX2_practise_6 : decode cX2_practise 6 = .ok (.aload_n 2, 1) := dk_44 (dk_at dksX2_practise_0 6 rfl rfl)
theorem dX2_practise_7 : decode cX2_practise 7 = .ok (.getfield 93, 3) := dk_180 0 93 (dk_at dksX2_practise_0 7 rfl rfl)
theorem dX2_practise_10 : decode cX2_practise 10 = .ok (.bipush 9, 2) := dk_16 9 (dk_at dksX2_practise_0 10 rfl rfl)
theorem dX2_practise_12 : decode cX2_practise 12 = .ok (.if_icmp .ne 7, 3) := dk_160 0 7 (dk_at dksX2_practise_0 12 rfl rfl)
theorem dX2_practise_15 : decode cX2_practise 15 = .ok (.iconst 1, 1) := dk_4 (dk_at dksX2_practise_0 15 rfl rfl)
theorem dX2_practise_16 : decode cX2_practise 16 = .ok (.goto 4, 3) := dk_167 0 4 (dk_at dksX2_practise_0 16 rfl rfl)
theorem dX2_practise_19 : decode cX2_practise 19 = .ok (.iconst 0, 1) := dk_3 (dk_at dksX2_practise_0 19 rfl rfl)
theorem dX2_practise_20 : decode cX2_practise 20 = .ok (.bipush 6, 2) := dk_16 6 (dk_at dksX2_practise_0 20 rfl rfl)
theorem dX2_practise_22 : decode cX2_practise 22 = .ok (.bipush 9, 2) := dk_16 9 (dk_at dksX2_practise_0 22 rfl rfl)
theorem dX2_practise_24 : decode cX2_practise 24 = .ok (.invokestatic 203, 3) := dk_184 0 203 (dk_at dksX2_practise_1 0 rfl rfl)
theorem dX2_practise_27 : decode cX2_practise 27 = .ok (.aload_n 2, 1) := dk_44 (dk_at dksX2_practise_1 3 rfl rfl)
theorem dX2_practise_28 : decode cX2_practise 28 = .ok (.dup, 1) := dk_89 (dk_at dksX2_practise_1 4 rfl rfl)
theorem dX2_practise_29 : decode cX2_practise 29 = .ok (.getfield 93, 3) := dk_180 0 93 (dk_at dksX2_practise_1 5 rfl rfl)
theorem dX2_practise_32 : decode cX2_practise 32 = .ok (.iconst 1, 1) := dk_4 (dk_at dksX2_practise_1 8 rfl rfl)
theorem dX2_practise_33 : decode cX2_practise 33 = .ok (.iadd, 1) := dk_96 (dk_at dksX2_practise_1 9 rfl rfl)
theorem dX2_practise_34 : decode cX2_practise 34 = .ok (.putfield 93, 3) := dk_181 0 93 (dk_at dksX2_practise_1 10 rfl rfl)
theorem dX2_practise_37 : decode cX2_practise 37 = .ok (.aload_n 2, 1) := dk_44 (dk_at dksX2_practise_1 13 rfl rfl)
theorem dX2_practise_38 : decode cX2_practise 38 = .ok (.iconst 1, 1) := dk_4 (dk_at dksX2_practise_1 14 rfl rfl)
theorem dX2_practise_39 : decode cX2_practise 39 = .ok (.putfield 101, 3) := dk_181 0 101 (dk_at dksX2_practise_1 15 rfl rfl)
theorem dX2_practise_42 : decode cX2_practise 42 = .ok (.aload_n 2, 1) := dk_44 (dk_at dksX2_practise_1 18 rfl rfl)
theorem dX2_practise_43 : decode cX2_practise 43 = .ok (.getfield 93, 3) := dk_180 0 93 (dk_at dksX2_practise_1 19 rfl rfl)
theorem dX2_practise_46 : decode cX2_practise 46 = .ok (.ireturn, 1) := dk_172 (dk_at dksX2_practise_1 22 rfl rfl)
def dkwX2_requirePresent_0 : List UInt8 := [42, 180, 0, 18, 27, 182, 0, 74, 192, 0, 86, 77, 44, 182, 0, 104, 8, 27, 184, 0, 203, 44, 176]
abbrev dktX2_requirePresent_0 : List UInt8 := dkwX2_requirePresent_0 ++ []
theorem dksX2_requirePresent_0 : cX2_requirePresent.data.toList.drop 0 = dktX2_requirePresent_0 := by decide +kernel
theorem dX2_requirePresent_0 : decode cX2_requirePresent 0 = .ok (.aload_n 0, 1) := dk_42 (dk_at dksX2_requirePresent_0 0 rfl rfl)
theorem dX2_requirePresent_1 : decode cX2_requirePresent 1 = .ok (.getfield 18, 3) := dk_180 0 18 (dk_at dksX2_requirePresent_0 1 rfl rfl)
theorem dX2_requirePresent_4 : decode cX2_requirePresent 4 = .ok (.iload_n 1, 1) := dk_27 (dk_at dksX2_requirePresent_0 4 rfl rfl)
theorem dX2_requirePresent_5 : decode cX2_requirePresent 5 = .ok (.invokevirtual 74, 3) := dk_182 0 74 (dk_at dksX2_requirePresent_0 5 rfl rfl)
theorem dX2_requirePresent_8 : decode cX2_requirePresent 8 = .ok (.checkcast 86, 3) := dk_192 0 86 (dk_at dksX2_requirePresent_0 8 rfl rfl)
theorem dX2_requirePresent_11 : decode cX2_requirePresent 11 = .ok (.astore_n 2, 1) := dk_77 (dk_at dksX2_requirePresent_0 11 rfl rfl)
theorem dX2_requirePresent_12 : decode cX2_requirePresent 12 = .ok (.aload_n 2, 1) := dk_44 (dk_at dksX2_requirePresent_0 12 rfl rfl)
theorem dX2_requirePresent_13 : decode cX2_requirePresent 13 = .ok (.invokevirtual 104, 3) := dk_182 0 104 (dk_at dksX2_requirePresent_0 13 rfl rfl)
theorem dX2_requirePresent_16 : decode cX2_requirePresent 16 = .ok (.iconst 5, 1) := dk_8 (dk_at dksX2_requirePresent_0 16 rfl rfl)
theorem dX2_requirePresent_17 : decode cX2_requirePresent 17 = .ok (.iload_n 1, 1) := dk_27 (dk_at dksX2_requirePresent_0 17 rfl rfl)
theorem dX2_requirePresent_18 : decode cX2_requirePresent 18 = .ok (.invokestatic 203, 3) := dk_184 0 203 (dk_at dksX2_requirePresent_0 18 rfl rfl)
theorem dX2_requirePresent_21 : decode cX2_requirePresent 21 = .ok (.aload_n 2, 1) := dk_44 (dk_at dksX2_requirePresent_0 21 rfl rfl)
theorem dX2_requirePresent_22 : decode cX2_requirePresent 22 = .ok (.areturn, 1) := dk_176 (dk_at dksX2_requirePresent_0 22 rfl rfl)
def dkwX2_neglect_0 : List UInt8 := [42, 27, 182, 0, 238, 77, 42, 44, 182, 0, 242, 62, 44, 180, 0, 93, 172]
abbrev dktX2_neglect_0 : List UInt8 := dkwX2_neglect_0 ++ []
theorem dksX2_neglect_0 : cX2_neglect.data.toList.drop 0 = dktX2_neglect_0 := by decide +kernel
theorem dX2_neglect_0 : decode cX2_neglect 0 = .ok (.aload_n 0, 1) := dk_42 (dk_at dksX2_neglect_0 0 rfl rfl)
theorem dX2_neglect_1 : decode cX2_neglect 1 = .ok (.iload_n 1, 1) := dk_27 (dk_at dksX2_neglect_0 1 rfl rfl)
theorem dX2_neglect_2 : decode cX2_neglect 2 = .ok (.invokevirtual 238, 3) := dk_182 0 238 (dk_at dksX2_neglect_0 2 rfl rfl)
theorem dX2_neglect_5 : decode cX2_neglect 5 = .ok (.astore_n 2, 1) := dk_77 (dk_at dksX2_neglect_0 5 rfl rfl)
theorem dX2_neglect_6 : decode cX2_neglect 6 = .ok (.aload_n 0, 1) := dk_42 (dk_at dksX2_neglect_0 6 rfl rfl)
theorem dX2_neglect_7 : decode cX2_neglect 7 = .ok (.aload_n 2, 1) := dk_44 (dk_at dksX2_neglect_0 7 rfl rfl)
theorem dX2_neglect_8 : decode cX2_neglect 8 = .ok (.invokevirtual 242, 3) := dk_182 0 242 (dk_at dksX2_neglect_0 8 rfl rfl)
theorem dX2_neglect_11 : decode cX2_neglect 11 = .ok (.istore_n 3, 1) := dk_62 (dk_at dksX2_neglect_0 11 rfl rfl)
theorem dX2_neglect_12 : decode cX2_neglect 12 = .ok (.aload_n 2, 1) := dk_44 (dk_at dksX2_neglect_0 12 rfl rfl)
theorem dX2_neglect_13 : decode cX2_neglect 13 = .ok (.getfield 93, 3) := dk_180 0 93 (dk_at dksX2_neglect_0 13 rfl rfl)
theorem dX2_neglect_16 : decode cX2_neglect 16 = .ok (.ireturn, 1) := dk_172 (dk_at dksX2_neglect_0 16 rfl rfl)
def dkwX2_weaken_1 : List UInt8 := [153, 0, 17, 43, 182, 0, 221, 42, 89, 180, 0, 117, 4, 96, 181, 0, 117, 28, 172]
abbrev dktX2_weaken_1 : List UInt8 := dkwX2_weaken_1 ++ []
def dkwX2_weaken_0 : List UInt8 := [43, 89, 180, 0, 93, 4, 100, 181, 0, 93, 43, 180, 0, 93, 154, 0, 7, 4, 167, 0, 4, 3, 61, 28]
abbrev dktX2_weaken_0 : List UInt8 := dkwX2_weaken_0 ++ dktX2_weaken_1
theorem dksX2_weaken_0 : cX2_weaken.data.toList.drop 0 = dktX2_weaken_0 := by decide +kernel
theorem dksX2_weaken_1 : cX2_weaken.data.toList.drop 24 = dktX2_weaken_1 := dk_seg dksX2_weaken_0 24 rfl rfl
theorem dX2_weaken_0 : decode cX2_weaken 0 = .ok (.aload_n 1, 1) := dk_43 (dk_at dksX2_weaken_0 0 rfl rfl)
theorem dX2_weaken_1 : decode cX2_weaken 1 = .ok (.dup, 1) := dk_89 (dk_at dksX2_weaken_0 1 rfl rfl)
theorem dX2_weaken_2 : decode cX2_weaken 2 = .ok (.getfield 93, 3) := dk_180 0 93 (dk_at dksX2_weaken_0 2 rfl rfl)
theorem dX2_weaken_5 : decode cX2_weaken 5 = .ok (.iconst 1, 1) := dk_4 (dk_at dksX2_weaken_0 5 rfl rfl)
theorem dX2_weaken_6 : decode cX2_weaken 6 = .ok (.isub, 1) := dk_100 (dk_at dksX2_weaken_0 6 rfl rfl)
theorem dX2_weaken_7 : decode cX2_weaken 7 = .ok (.putfield 93, 3) := dk_181 0 93 (dk_at dksX2_weaken_0 7 rfl rfl)
theorem dX2_weaken_10 : decode cX2_weaken 10 = .ok (.aload_n 1, 1) := dk_43 (dk_at dksX2_weaken_0 10 rfl rfl)
theorem dX2_weaken_11 : decode cX2_weaken 11 = .ok (.getfield 93, 3) := dk_180 0 93 (dk_at dksX2_weaken_0 11 rfl rfl)
theorem dX2_weaken_14 : decode cX2_weaken 14 = .ok (.ifCond .ne 7, 3) := dk_154 0 7 (dk_at dksX2_weaken_0 14 rfl rfl)
theorem dX2_weaken_17 : decode cX2_weaken 17 = .ok (.iconst 1, 1) := dk_4 (dk_at dksX2_weaken_0 17 rfl rfl)
theorem dX2_weaken_18 : decode cX2_weaken 18 = .ok (.goto 4, 3) := dk_167 0 4 (dk_at dksX2_weaken_0 18 rfl rfl)
theorem dX2_weaken_21 : decode cX2_weaken 21 = .ok (.iconst 0, 1) := dk_3 (dk_at dksX2_weaken_0 21 rfl rfl)
theorem dX2_weaken_22 : decode cX2_weaken 22 = .ok (.istore_n 2, 1) := dk_61 (dk_at dksX2_weaken_0 22 rfl rfl)
theorem dX2_weaken_23 : decode cX2_weaken 23 = .ok (.iload_n 2, 1) := dk_28 (dk_at dksX2_weaken_0 23 rfl rfl)
theorem dX2_weaken_24 : decode cX2_weaken 24 = .ok (.ifCond .eq 17, 3) := dk_153 0 17 (dk_at dksX2_weaken_1 0 rfl rfl)
theorem dX2_weaken_27 : decode cX2_weaken 27 = .ok (.aload_n 1, 1) := dk_43 (dk_at dksX2_weaken_1 3 rfl rfl)
theorem dX2_weaken_28 : decode cX2_weaken 28 = .ok (.invokevirtual 221, 3) := dk_182 0 221 (dk_at dksX2_weaken_1 4 rfl rfl)
theorem dX2_weaken_31 : decode cX2_weaken 31 = .ok (.aload_n 0, 1) := dk_42 (dk_at dksX2_weaken_1 7 rfl rfl)
theorem dX2_weaken_32 : decode cX2_weaken 32 = .ok (.dup, 1) := dk_89 (dk_at dksX2_weaken_1 8 rfl rfl)
theorem dX2_weaken_33 : decode cX2_weaken 33 = .ok (.getfield 117, 3) := dk_180 0 117 (dk_at dksX2_weaken_1 9 rfl rfl)
theorem dX2_weaken_36 : decode cX2_weaken 36 = .ok (.iconst 1, 1) := dk_4 (dk_at dksX2_weaken_1 12 rfl rfl)
theorem dX2_weaken_37 : decode cX2_weaken 37 = .ok (.iadd, 1) := dk_96 (dk_at dksX2_weaken_1 13 rfl rfl)
theorem dX2_weaken_38 : decode cX2_weaken 38 = .ok (.putfield 117, 3) := dk_181 0 117 (dk_at dksX2_weaken_1 14 rfl rfl)
theorem dX2_weaken_41 : decode cX2_weaken 41 = .ok (.iload_n 2, 1) := dk_28 (dk_at dksX2_weaken_1 17 rfl rfl)
theorem dX2_weaken_42 : decode cX2_weaken 42 = .ok (.ireturn, 1) := dk_172 (dk_at dksX2_weaken_1 18 rfl rfl)
def dkwX2_entail_2 : List UInt8 := [181, 0, 98, 44, 180, 0, 107, 180, 0, 70, 172]
abbrev dktX2_entail_2 : List UInt8 := dkwX2_entail_2 ++ []
def dkwX2_entail_1 : List UInt8 := [199, 0, 7, 4, 167, 0, 4, 3, 16, 9, 44, 180, 0, 107, 180, 0, 70, 184, 0, 203, 44, 4]
abbrev dktX2_entail_1 : List UInt8 := dkwX2_entail_1 ++ dktX2_entail_2
def dkwX2_entail_0 : List UInt8 := [42, 27, 182, 0, 238, 77, 44, 180, 0, 98, 16, 7, 27, 184, 0, 203, 42, 44, 180, 0, 107, 182, 0, 182]
abbrev dktX2_entail_0 : List UInt8 := dkwX2_entail_0 ++ dktX2_entail_1
theorem dksX2_entail_0 : cX2_entail.data.toList.drop 0 = dktX2_entail_0 := by decide +kernel
theorem dksX2_entail_1 : cX2_entail.data.toList.drop 24 = dktX2_entail_1 := dk_seg dksX2_entail_0 24 rfl rfl
theorem dksX2_entail_2 : cX2_entail.data.toList.drop 46 = dktX2_entail_2 := dk_seg dksX2_entail_1 22 rfl rfl
theorem dX2_entail_0 : decode cX2_entail 0 = .ok (.aload_n 0, 1) := dk_42 (dk_at dksX2_entail_0 0 rfl rfl)
theorem dX2_entail_1 : decode cX2_entail 1 = .ok (.iload_n 1, 1) := dk_27 (dk_at dksX2_entail_0 1 rfl rfl)
theorem dX2_entail_2 : decode cX2_entail 2 = .ok (.invokevirtual 238, 3) := dk_182 0 238 (dk_at dksX2_entail_0 2 rfl rfl)
theorem dX2_entail_5 : decode cX2_entail 5 = .ok (.astore_n 2, 1) := dk_77 (dk_at dksX2_entail_0 5 rfl rfl)
theorem dX2_entail_6 : decode cX2_entail 6 = .ok (.aload_n 2, 1) := dk_44 (dk_at dksX2_entail_0 6 rfl rfl)
theorem dX2_entail_7 : decode cX2_entail 7 = .ok (.getfield 98, 3) := dk_180 0 98 (dk_at dksX2_entail_0 7 rfl rfl)
theorem dX2_entail_10 : decode cX2_entail 10 = .ok (.bipush 7, 2) := dk_16 7 (dk_at dksX2_entail_0 10 rfl rfl)
theorem dX2_entail_12 : decode cX2_entail 12 = .ok (.iload_n 1, 1) := dk_27 (dk_at dksX2_entail_0 12 rfl rfl)
theorem dX2_entail_13 : decode cX2_entail 13 = .ok (.invokestatic 203, 3) := dk_184 0 203 (dk_at dksX2_entail_0 13 rfl rfl)
theorem dX2_entail_16 : decode cX2_entail 16 = .ok (.aload_n 0, 1) := dk_42 (dk_at dksX2_entail_0 16 rfl rfl)
theorem dX2_entail_17 : decode cX2_entail 17 = .ok (.aload_n 2, 1) := dk_44 (dk_at dksX2_entail_0 17 rfl rfl)
theorem dX2_entail_18 : decode cX2_entail 18 = .ok (.getfield 107, 3) := dk_180 0 107 (dk_at dksX2_entail_0 18 rfl rfl)
theorem dX2_entail_21 : decode cX2_entail 21 = .ok (.invokevirtual 182, 3) := dk_182 0 182 (dk_at dksX2_entail_0 21 rfl rfl)
theorem dX2_entail_24 : decode cX2_entail 24 = .ok (.ifnonnull 7, 3) := dk_199 0 7 (dk_at dksX2_entail_1 0 rfl rfl)
theorem dX2_entail_27 : decode cX2_entail 27 = .ok (.iconst 1, 1) := dk_4 (dk_at dksX2_entail_1 3 rfl rfl)
theorem dX2_entail_28 : decode cX2_entail 28 = .ok (.goto 4, 3) := dk_167 0 4 (dk_at dksX2_entail_1 4 rfl rfl)
theorem dX2_entail_31 : decode cX2_entail 31 = .ok (.iconst 0, 1) := dk_3 (dk_at dksX2_entail_1 7 rfl rfl)
theorem dX2_entail_32 : decode cX2_entail 32 = .ok (.bipush 9, 2) := dk_16 9 (dk_at dksX2_entail_1 8 rfl rfl)
theorem dX2_entail_34 : decode cX2_entail 34 = .ok (.aload_n 2, 1) := dk_44 (dk_at dksX2_entail_1 10 rfl rfl)
theorem dX2_entail_35 : decode cX2_entail 35 = .ok (.getfield 107, 3) := dk_180 0 107 (dk_at dksX2_entail_1 11 rfl rfl)
theorem dX2_entail_38 : decode cX2_entail 38 = .ok (.getfield 70, 3) := dk_180 0 70 (dk_at dksX2_entail_1 14 rfl rfl)
theorem dX2_entail_41 : decode cX2_entail 41 = .ok (.invokestatic 203, 3) := dk_184 0 203 (dk_at dksX2_entail_1 17 rfl rfl)
theorem dX2_entail_44 : decode cX2_entail 44 = .ok (.aload_n 2, 1) := dk_44 (dk_at dksX2_entail_1 20 rfl rfl)
theorem dX2_entail_45 : decode cX2_entail 45 = .ok (.iconst 1, 1) := dk_4 (dk_at dksX2_entail_1 21 rfl rfl)
theorem dX2_entail_46 : decode cX2_entail 46 = .ok (.putfield 98, 3) := dk_181 0 98 (dk_at dksX2_entail_2 0 rfl rfl)
theorem dX2_entail_49 : decode cX2_entail 49 = .ok (.aload_n 2, 1) := dk_44 (dk_at dksX2_entail_2 3 rfl rfl)
theorem dX2_entail_50 : decode cX2_entail 50 = .ok (.getfield 107, 3) := dk_180 0 107 (dk_at dksX2_entail_2 4 rfl rfl)
theorem dX2_entail_53 : decode cX2_entail 53 = .ok (.getfield 70, 3) := dk_180 0 70 (dk_at dksX2_entail_2 7 rfl rfl)
theorem dX2_entail_56 : decode cX2_entail 56 = .ok (.ireturn, 1) := dk_172 (dk_at dksX2_entail_2 10 rfl rfl)
def dkwX2_breakEntail_1 : List UInt8 := [44, 3, 181, 0, 98, 44, 44, 180, 0, 93, 4, 96, 5, 108, 181, 0, 93, 44, 180, 0, 93, 172]
abbrev dktX2_breakEntail_1 : List UInt8 := dkwX2_breakEntail_1 ++ []
def dkwX2_breakEntail_0 : List UInt8 := [42, 27, 182, 0, 238, 77, 44, 180, 0, 98, 154, 0, 7, 4, 167, 0, 4, 3, 16, 8, 27, 184, 0, 203]
abbrev dktX2_breakEntail_0 : List UInt8 := dkwX2_breakEntail_0 ++ dktX2_breakEntail_1
theorem dksX2_breakEntail_0 : cX2_breakEntail.data.toList.drop 0 = dktX2_breakEntail_0 := by decide +kernel
theorem dksX2_breakEntail_1 : cX2_breakEntail.data.toList.drop 24 = dktX2_breakEntail_1 := dk_seg dksX2_breakEntail_0 24 rfl rfl
theorem dX2_breakEntail_0 : decode cX2_breakEntail 0 = .ok (.aload_n 0, 1) := dk_42 (dk_at dksX2_breakEntail_0 0 rfl rfl)
theorem dX2_breakEntail_1 : decode cX2_breakEntail 1 = .ok (.iload_n 1, 1) := dk_27 (dk_at dksX2_breakEntail_0 1 rfl rfl)
theorem dX2_breakEntail_2 : decode cX2_breakEntail 2 = .ok (.invokevirtual 238, 3) := dk_182 0 238 (dk_at dksX2_breakEntail_0 2 rfl rfl)
theorem dX2_breakEntail_5 : decode cX2_breakEntail 5 = .ok (.astore_n 2, 1) := dk_77 (dk_at dksX2_breakEntail_0 5 rfl rfl)
theorem dX2_breakEntail_6 : decode cX2_breakEntail 6 = .ok (.aload_n 2, 1) := dk_44 (dk_at dksX2_breakEntail_0 6 rfl rfl)
theorem dX2_breakEntail_7 : decode cX2_breakEntail 7 = .ok (.getfield 98, 3) := dk_180 0 98 (dk_at dksX2_breakEntail_0 7 rfl rfl)
theorem dX2_breakEntail_10 : decode cX2_breakEntail 10 = .ok (.ifCond .ne 7, 3) := dk_154 0 7 (dk_at dksX2_breakEntail_0 10 rfl rfl)
theorem dX2_breakEntail_13 : decode cX2_breakEntail 13 = .ok (.iconst 1, 1) := dk_4 (dk_at dksX2_breakEntail_0 13 rfl rfl)
theorem dX2_breakEntail_14 : decode cX2_breakEntail 14 = .ok (.goto 4, 3) := dk_167 0 4 (dk_at dksX2_breakEntail_0 14 rfl rfl)
theorem dX2_breakEntail_17 : decode cX2_breakEntail 17 = .ok (.iconst 0, 1) := dk_3 (dk_at dksX2_breakEntail_0 17 rfl rfl)
theorem dX2_breakEntail_18 : decode cX2_breakEntail 18 = .ok (.bipush 8, 2) := dk_16 8 (dk_at dksX2_breakEntail_0 18 rfl rfl)
theorem dX2_breakEntail_20 : decode cX2_breakEntail 20 = .ok (.iload_n 1, 1) := dk_27 (dk_at dksX2_breakEntail_0 20 rfl rfl)
theorem dX2_breakEntail_21 : decode cX2_breakEntail 21 = .ok (.invokestatic 203, 3) := dk_184 0 203 (dk_at dksX2_breakEntail_0 21 rfl rfl)
theorem dX2_breakEntail_24 : decode cX2_breakEntail 24 = .ok (.aload_n 2, 1) := dk_44 (dk_at dksX2_breakEntail_1 0 rfl rfl)
theorem dX2_breakEntail_25 : decode cX2_breakEntail 25 = .ok (.iconst 0, 1) := dk_3 (dk_at dksX2_breakEntail_1 1 rfl rfl)
theorem dX2_breakEntail_26 : decode cX2_breakEntail 26 = .ok (.putfield 98, 3) := dk_181 0 98 (dk_at dksX2_breakEntail_1 2 rfl rfl)
theorem dX2_breakEntail_29 : decode cX2_breakEntail 29 = .ok (.aload_n 2, 1) := dk_44 (dk_at dksX2_breakEntail_1 5 rfl rfl)
theorem dX2_breakEntail_30 : decode cX2_breakEntail 30 = .ok (.aload_n 2, 1) := dk_44 (dk_at dksX2_breakEntail_1 6 rfl rfl)
theorem dX2_breakEntail_31 : decode cX2_breakEntail 31 = .ok (.getfield 93, 3) := dk_180 0 93 (dk_at dksX2_breakEntail_1 7 rfl rfl)
theorem dX2_breakEntail_34 : decode cX2_breakEntail 34 = .ok (.iconst 1, 1) := dk_4 (dk_at dksX2_breakEntail_1 10 rfl rfl)
theorem dX2_breakEntail_35 : decode cX2_breakEntail 35 = .ok (.iadd, 1) := dk_96 (dk_at dksX2_breakEntail_1 11 rfl rfl)
theorem dX2_breakEntail_36 : decode cX2_breakEntail 36 = .ok (.iconst 2, 1) := dk_5 (dk_at dksX2_breakEntail_1 12 rfl rfl)
theorem dX2_breakEntail_37 : decode cX2_breakEntail 37 = .ok (.idiv, 1) := dk_108 (dk_at dksX2_breakEntail_1 13 rfl rfl)
theorem dX2_breakEntail_38 : decode cX2_breakEntail 38 = .ok (.putfield 93, 3) := dk_181 0 93 (dk_at dksX2_breakEntail_1 14 rfl rfl)
theorem dX2_breakEntail_41 : decode cX2_breakEntail 41 = .ok (.aload_n 2, 1) := dk_44 (dk_at dksX2_breakEntail_1 17 rfl rfl)
theorem dX2_breakEntail_42 : decode cX2_breakEntail 42 = .ok (.getfield 93, 3) := dk_180 0 93 (dk_at dksX2_breakEntail_1 18 rfl rfl)
theorem dX2_breakEntail_45 : decode cX2_breakEntail 45 = .ok (.ireturn, 1) := dk_172 (dk_at dksX2_breakEntail_1 21 rfl rfl)
def dkwX2_give_4 : List UInt8 := [180, 0, 89, 182, 0, 234, 45, 25, 4, 181, 0, 107, 21, 5, 172]
abbrev dktX2_give_4 : List UInt8 := dkwX2_give_4 ++ []
def dkwX2_give_3 : List UInt8 := [3, 6, 184, 0, 136, 154, 0, 7, 4, 167, 0, 4, 3, 16, 11, 21, 5, 184, 0, 203, 42, 25, 4, 45]
abbrev dktX2_give_3 : List UInt8 := dkwX2_give_3 ++ dktX2_give_4
def dkwX2_give_2 : List UInt8 := [167, 0, 4, 3, 16, 10, 28, 184, 0, 203, 42, 45, 180, 0, 107, 25, 4, 182, 0, 245, 54, 5, 21, 5]
abbrev dktX2_give_2 : List UInt8 := dkwX2_give_2 ++ dktX2_give_3
def dkwX2_give_1 : List UInt8 := [16, 7, 27, 184, 0, 203, 42, 25, 4, 182, 0, 210, 45, 180, 0, 107, 25, 4, 166, 0, 7, 4]
abbrev dktX2_give_1 : List UInt8 := dkwX2_give_1 ++ dktX2_give_2
def dkwX2_give_0 : List UInt8 := [42, 27, 182, 0, 238, 78, 42, 180, 0, 12, 28, 182, 0, 74, 192, 0, 64, 58, 4, 45, 180, 0, 98]
abbrev dktX2_give_0 : List UInt8 := dkwX2_give_0 ++ dktX2_give_1
theorem dksX2_give_0 : cX2_give.data.toList.drop 0 = dktX2_give_0 := by decide +kernel
theorem dksX2_give_1 : cX2_give.data.toList.drop 23 = dktX2_give_1 := dk_seg dksX2_give_0 23 rfl rfl
theorem dksX2_give_2 : cX2_give.data.toList.drop 45 = dktX2_give_2 := dk_seg dksX2_give_1 22 rfl rfl
theorem dksX2_give_3 : cX2_give.data.toList.drop 69 = dktX2_give_3 := dk_seg dksX2_give_2 24 rfl rfl
theorem dksX2_give_4 : cX2_give.data.toList.drop 93 = dktX2_give_4 := dk_seg dksX2_give_3 24 rfl rfl
theorem dX2_give_0 : decode cX2_give 0 = .ok (.aload_n 0, 1) := dk_42 (dk_at dksX2_give_0 0 rfl rfl)
theorem dX2_give_1 : decode cX2_give 1 = .ok (.iload_n 1, 1) := dk_27 (dk_at dksX2_give_0 1 rfl rfl)
theorem dX2_give_2 : decode cX2_give 2 = .ok (.invokevirtual 238, 3) := dk_182 0 238 (dk_at dksX2_give_0 2 rfl rfl)
theorem dX2_give_5 : decode cX2_give 5 = .ok (.astore_n 3, 1) := dk_78 (dk_at dksX2_give_0 5 rfl rfl)
theorem dX2_give_6 : decode cX2_give 6 = .ok (.aload_n 0, 1) := dk_42 (dk_at dksX2_give_0 6 rfl rfl)
theorem dX2_give_7 : decode cX2_give 7 = .ok (.getfield 12, 3) := dk_180 0 12 (dk_at dksX2_give_0 7 rfl rfl)
theorem dX2_give_10 : decode cX2_give 10 = .ok (.iload_n 2, 1) := dk_28 (dk_at dksX2_give_0 10 rfl rfl)
theorem dX2_give_11 : decode cX2_give 11 = .ok (.invokevirtual 74, 3) := dk_182 0 74 (dk_at dksX2_give_0 11 rfl rfl)
theorem dX2_give_14 : decode cX2_give 14 = .ok (.checkcast 64, 3) := dk_192 0 64 (dk_at dksX2_give_0 14 rfl rfl)
theorem dX2_give_17 : decode cX2_give 17 = .ok (.astore 4, 2) := dk_58 4 (dk_at dksX2_give_0 17 rfl rfl)
theorem dX2_give_19 : decode cX2_give 19 = .ok (.aload_n 3, 1) := dk_45 (dk_at dksX2_give_0 19 rfl rfl)
theorem dX2_give_20 : decode cX2_give 20 = .ok (.getfield 98, 3) := dk_180 0 98 (dk_at dksX2_give_0 20 rfl rfl)
theorem dX2_give_23 : decode cX2_give 23 = .ok (.bipush 7, 2) := dk_16 7 (dk_at dksX2_give_1 0 rfl rfl)
theorem dX2_give_25 : decode cX2_give 25 = .ok (.iload_n 1, 1) := dk_27 (dk_at dksX2_give_1 2 rfl rfl)
theorem dX2_give_26 : decode cX2_give 26 = .ok (.invokestatic 203, 3) := dk_184 0 203 (dk_at dksX2_give_1 3 rfl rfl)
theorem dX2_give_29 : decode cX2_give 29 = .ok (.aload_n 0, 1) := dk_42 (dk_at dksX2_give_1 6 rfl rfl)
theorem dX2_give_30 : decode cX2_give 30 = .ok (.aload 4, 2) := dk_25 4 (dk_at dksX2_give_1 7 rfl rfl)
theorem dX2_give_32 : decode cX2_give 32 = .ok (.invokevirtual 210, 3) := dk_182 0 210 (dk_at dksX2_give_1 9 rfl rfl)
theorem dX2_give_35 : decode cX2_give 35 = .ok (.aload_n 3, 1) := dk_45 (dk_at dksX2_give_1 12 rfl rfl)
theorem dX2_give_36 : decode cX2_give 36 = .ok (.getfield 107, 3) := dk_180 0 107 (dk_at dksX2_give_1 13 rfl rfl)
theorem dX2_give_39 : decode cX2_give 39 = .ok (.aload 4, 2) := dk_25 4 (dk_at dksX2_give_1 16 rfl rfl)
theorem dX2_give_41 : decode cX2_give 41 = .ok (.if_acmp .ne 7, 3) := dk_166 0 7 (dk_at dksX2_give_1 18 rfl rfl)
theorem dX2_give_44 : decode cX2_give 44 = .ok (.iconst 1, 1) := dk_4 (dk_at dksX2_give_1 21 rfl rfl)
theorem dX2_give_45 : decode cX2_give 45 = .ok (.goto 4, 3) := dk_167 0 4 (dk_at dksX2_give_2 0 rfl rfl)
theorem dX2_give_48 : decode cX2_give 48 = .ok (.iconst 0, 1) := dk_3 (dk_at dksX2_give_2 3 rfl rfl)
theorem dX2_give_49 : decode cX2_give 49 = .ok (.bipush 10, 2) := dk_16 10 (dk_at dksX2_give_2 4 rfl rfl)
theorem dX2_give_51 : decode cX2_give 51 = .ok (.iload_n 2, 1) := dk_28 (dk_at dksX2_give_2 6 rfl rfl)
theorem dX2_give_52 : decode cX2_give 52 = .ok (.invokestatic 203, 3) := dk_184 0 203 (dk_at dksX2_give_2 7 rfl rfl)
theorem dX2_give_55 : decode cX2_give 55 = .ok (.aload_n 0, 1) := dk_42 (dk_at dksX2_give_2 10 rfl rfl)
theorem dX2_give_56 : decode cX2_give 56 = .ok (.aload_n 3, 1) := dk_45 (dk_at dksX2_give_2 11 rfl rfl)
theorem dX2_give_57 : decode cX2_give 57 = .ok (.getfield 107, 3) := dk_180 0 107 (dk_at dksX2_give_2 12 rfl rfl)
theorem dX2_give_60 : decode cX2_give 60 = .ok (.aload 4, 2) := dk_25 4 (dk_at dksX2_give_2 15 rfl rfl)
theorem dX2_give_62 : decode cX2_give 62 = .ok (.invokevirtual 245, 3) := dk_182 0 245 (dk_at dksX2_give_2 17 rfl rfl)
theorem dX2_give_65 : decode cX2_give 65 = .ok (.istore 5, 2) := dk_54 5 (dk_at dksX2_give_2 20 rfl rfl)
theorem dX2_give_67 : decode cX2_give 67 = .ok (.iload 5, 2) := dk_21 5 (dk_at dksX2_give_2 22 rfl rfl)
theorem dX2_give_69 : decode cX2_give 69 = .ok (.iconst 0, 1) := dk_3 (dk_at dksX2_give_3 0 rfl rfl)
theorem dX2_give_70 : decode cX2_give 70 = .ok (.iconst 3, 1) := dk_6 (dk_at dksX2_give_3 1 rfl rfl)
theorem dX2_give_71 : decode cX2_give 71 = .ok (.invokestatic 136, 3) := dk_184 0 136 (dk_at dksX2_give_3 2 rfl rfl)
theorem dX2_give_74 : decode cX2_give 74 = .ok (.ifCond .ne 7, 3) := dk_154 0 7 (dk_at dksX2_give_3 5 rfl rfl)
theorem dX2_give_77 : decode cX2_give 77 = .ok (.iconst 1, 1) := dk_4 (dk_at dksX2_give_3 8 rfl rfl)
theorem dX2_give_78 : decode cX2_give 78 = .ok (.goto 4, 3) := dk_167 0 4 (dk_at dksX2_give_3 9 rfl rfl)
theorem dX2_give_81 : decode cX2_give 81 = .ok (.iconst 0, 1) := dk_3 (dk_at dksX2_give_3 12 rfl rfl)
theorem dX2_give_82 : decode cX2_give 82 = .ok (.bipush 11, 2) := dk_16 11 (dk_at dksX2_give_3 13 rfl rfl)
theorem dX2_give_84 : decode cX2_give 84 = .ok (.iload 5, 2) := dk_21 5 (dk_at dksX2_give_3 15 rfl rfl)
theorem dX2_give_86 : decode cX2_give 86 = .ok (.invokestatic 203, 3) := dk_184 0 203 (dk_at dksX2_give_3 17 rfl rfl)
theorem dX2_give_89 : decode cX2_give 89 = .ok (.aload_n 0, 1) := dk_42 (dk_at dksX2_give_3 20 rfl rfl)
theorem dX2_give_90 : decode cX2_give 90 = .ok (.aload 4, 2) := dk_25 4 (dk_at dksX2_give_3 21 rfl rfl)
theorem dX2_give_92 : decode cX2_give 92 = .ok (.aload_n 3, 1) := dk_45 (dk_at dksX2_give_3 23 rfl rfl)
theorem dX2_give_93 : decode cX2_give 93 = .ok (.getfield 89, 3) := dk_180 0 89 (dk_at dksX2_give_4 0 rfl rfl)
theorem dX2_give_96 : decode cX2_give 96 = .ok (.invokevirtual 234, 3) := dk_182 0 234 (dk_at dksX2_give_4 3 rfl rfl)
theorem dX2_give_99 : decode cX2_give 99 = .ok (.aload_n 3, 1) := dk_45 (dk_at dksX2_give_4 6 rfl rfl)
theorem dX2_give_100 : decode cX2_give 100 = .ok (.aload 4, 2) := dk_25 4 (dk_at dksX2_give_4 7 rfl rfl)
theorem dX2_give_102 : decode cX2_give 102 = .ok (.putfield 107, 3) := dk_181 0 107 (dk_at dksX2_give_4 9 rfl rfl)
theorem dX2_give_105 : decode cX2_give 105 = .ok (.iload 5, 2) := dk_21 5 (dk_at dksX2_give_4 12 rfl rfl)
theorem dX2_give_107 : decode cX2_give 107 = .ok (.ireturn, 1) := dk_172 (dk_at dksX2_give_4 14 rfl rfl)
def dkwX2_passYears_5 : List UInt8 := [180, 0, 114, 4, 96, 181, 0, 114, 132, 3, 1, 167, 255, 136, 28, 172]
abbrev dktX2_passYears_5 : List UInt8 := dkwX2_passYears_5 ++ []
def dkwX2_passYears_4 : List UInt8 := [25, 4, 185, 0, 60, 1, 0, 192, 0, 86, 58, 5, 25, 5, 3, 181, 0, 101, 167, 255, 228, 42, 89]
abbrev dktX2_passYears_4 : List UInt8 := dkwX2_passYears_4 ++ dktX2_passYears_5
def dkwX2_passYears_3 : List UInt8 := [96, 61, 167, 255, 206, 42, 180, 0, 18, 182, 0, 50, 58, 4, 25, 4, 185, 0, 54, 1, 0, 153, 0, 24]
abbrev dktX2_passYears_3 : List UInt8 := dkwX2_passYears_3 ++ dktX2_passYears_4
def dkwX2_passYears_2 : List UInt8 := [182, 0, 104, 154, 0, 23, 25, 5, 180, 0, 101, 154, 0, 15, 28, 42, 25, 5, 182, 0, 242, 184, 0, 164]
abbrev dktX2_passYears_2 : List UInt8 := dkwX2_passYears_2 ++ dktX2_passYears_3
def dkwX2_passYears_1 : List UInt8 := [185, 0, 54, 1, 0, 153, 0, 46, 25, 4, 185, 0, 60, 1, 0, 192, 0, 86, 58, 5, 25, 5]
abbrev dktX2_passYears_1 : List UInt8 := dkwX2_passYears_1 ++ dktX2_passYears_2
def dkwX2_passYears_0 : List UInt8 := [3, 61, 3, 62, 29, 27, 162, 0, 121, 42, 180, 0, 18, 182, 0, 50, 58, 4, 25, 4]
abbrev dktX2_passYears_0 : List UInt8 := dkwX2_passYears_0 ++ dktX2_passYears_1
theorem dksX2_passYears_0 : cX2_passYears.data.toList.drop 0 = dktX2_passYears_0 := by decide +kernel
theorem dksX2_passYears_1 : cX2_passYears.data.toList.drop 20 = dktX2_passYears_1 := dk_seg dksX2_passYears_0 20 rfl rfl
theorem dksX2_passYears_2 : cX2_passYears.data.toList.drop 42 = dktX2_passYears_2 := dk_seg dksX2_passYears_1 22 rfl rfl
theorem dksX2_passYears_3 : cX2_passYears.data.toList.drop 66 = dktX2_passYears_3 := dk_seg dksX2_passYears_2 24 rfl rfl
theorem dksX2_passYears_4 : cX2_passYears.data.toList.drop 90 = dktX2_passYears_4 := dk_seg dksX2_passYears_3 24 rfl rfl
theorem dksX2_passYears_5 : cX2_passYears.data.toList.drop 113 = dktX2_passYears_5 := dk_seg dksX2_passYears_4 23 rfl rfl
theorem dX2_passYears_0 : decode cX2_passYears 0 = .ok (.iconst 0, 1) := dk_3 (dk_at dksX2_passYears_0 0 rfl rfl)
theorem dX2_passYears_1 : decode cX2_passYears 1 = .ok (.istore_n 2, 1) := dk_61 (dk_at dksX2_passYears_0 1 rfl rfl)
theorem dX2_passYears_2 : decode cX2_passYears 2 = .ok (.iconst 0, 1) := dk_3 (dk_at dksX2_passYears_0 2 rfl rfl)
theorem dX2_passYears_3 : decode cX2_passYears 3 = .ok (.istore_n 3, 1) := dk_62 (dk_at dksX2_passYears_0 3 rfl rfl)
theorem dX2_passYears_4 : decode cX2_passYears 4 = .ok (.iload_n 3, 1) := dk_29 (dk_at dksX2_passYears_0 4 rfl rfl)
theorem dX2_passYears_5 : decode cX2_passYears 5 = .ok (.iload_n 1, 1) := dk_27 (dk_at dksX2_passYears_0 5 rfl rfl)
theorem dX2_passYears_6 : decode cX2_passYears 6 = .ok (.if_icmp .ge 121, 3) := dk_162 0 121 (dk_at dksX2_passYears_0 6 rfl rfl)
theorem dX2_passYears_9 : decode cX2_passYears 9 = .ok (.aload_n 0, 1) := dk_42 (dk_at dksX2_passYears_0 9 rfl rfl)
theorem dX2_passYears_10 : decode cX2_passYears 10 = .ok (.getfield 18, 3) := dk_180 0 18 (dk_at dksX2_passYears_0 10 rfl rfl)
theorem dX2_passYears_13 : decode cX2_passYears 13 = .ok (.invokevirtual 50, 3) := dk_182 0 50 (dk_at dksX2_passYears_0 13 rfl rfl)
theorem dX2_passYears_16 : decode cX2_passYears 16 = .ok (.astore 4, 2) := dk_58 4 (dk_at dksX2_passYears_0 16 rfl rfl)
theorem dX2_passYears_18 : decode cX2_passYears 18 = .ok (.aload 4, 2) := dk_25 4 (dk_at dksX2_passYears_0 18 rfl rfl)
theorem dX2_passYears_20 : decode cX2_passYears 20 = .ok (.invokeinterface 54 1, 5) := by decide +kernel
theorem dX2_passYears_25 : decode cX2_passYears 25 = .ok (.ifCond .eq 46, 3) := dk_153 0 46 (dk_at dksX2_passYears_1 5 rfl rfl)
theorem dX2_passYears_28 : decode cX2_passYears 28 = .ok (.aload 4, 2) := dk_25 4 (dk_at dksX2_passYears_1 8 rfl rfl)
theorem dX2_passYears_30 : decode cX2_passYears 30 = .ok (.invokeinterface 60 1, 5) := by decide +kernel
theorem dX2_passYears_35 : decode cX2_passYears 35 = .ok (.checkcast 86, 3) := dk_192 0 86 (dk_at dksX2_passYears_1 15 rfl rfl)
theorem dX2_passYears_38 : decode cX2_passYears 38 = .ok (.astore 5, 2) := dk_58 5 (dk_at dksX2_passYears_1 18 rfl rfl)
theorem dX2_passYears_40 : decode cX2_passYears 40 = .ok (.aload 5, 2) := dk_25 5 (dk_at dksX2_passYears_1 20 rfl rfl)
theorem dX2_passYears_42 : decode cX2_passYears 42 = .ok (.invokevirtual 104, 3) := dk_182 0 104 (dk_at dksX2_passYears_2 0 rfl rfl)
theorem dX2_passYears_45 : decode cX2_passYears 45 = .ok (.ifCond .ne 23, 3) := dk_154 0 23 (dk_at dksX2_passYears_2 3 rfl rfl)
theorem dX2_passYears_48 : decode cX2_passYears 48 = .ok (.aload 5, 2) := dk_25 5 (dk_at dksX2_passYears_2 6 rfl rfl)
theorem dX2_passYears_50 : decode cX2_passYears 50 = .ok (.getfield 101, 3) := dk_180 0 101 (dk_at dksX2_passYears_2 8 rfl rfl)
theorem dX2_passYears_53 : decode cX2_passYears 53 = .ok (.ifCond .ne 15, 3) := dk_154 0 15 (dk_at dksX2_passYears_2 11 rfl rfl)
theorem dX2_passYears_56 : decode cX2_passYears 56 = .ok (.iload_n 2, 1) := dk_28 (dk_at dksX2_passYears_2 14 rfl rfl)
theorem dX2_passYears_57 : decode cX2_passYears 57 = .ok (.aload_n 0, 1) := dk_42 (dk_at dksX2_passYears_2 15 rfl rfl)
theorem dX2_passYears_58 : decode cX2_passYears 58 = .ok (.aload 5, 2) := dk_25 5 (dk_at dksX2_passYears_2 16 rfl rfl)
theorem dX2_passYears_60 : decode cX2_passYears 60 = .ok (.invokevirtual 242, 3) := dk_182 0 242 (dk_at dksX2_passYears_2 18 rfl rfl)
theorem dX2_passYears_63 : decode cX2_passYears 63 = .ok (.invokestatic 164, 3) := dk_184 0 164 (dk_at dksX2_passYears_2 21 rfl rfl)
theorem dX2_passYears_66 : decode cX2_passYears 66 = .ok (.iadd, 1) := dk_96 (dk_at dksX2_passYears_3 0 rfl rfl)
theorem dX2_passYears_67 : decode cX2_passYears 67 = .ok (.istore_n 2, 1) := dk_61 (dk_at dksX2_passYears_3 1 rfl rfl)
theorem dX2_passYears_68 : decode cX2_passYears 68 = .ok (.goto (-50), 3) := dk_167 255 206 (dk_at dksX2_passYears_3 2 rfl rfl)
theorem dX2_passYears_71 : decode cX2_passYears 71 = .ok (.aload_n 0, 1) := dk_42 (dk_at dksX2_passYears_3 5 rfl rfl)
theorem dX2_passYears_72 : decode cX2_passYears 72 = .ok (.getfield 18, 3) := dk_180 0 18 (dk_at dksX2_passYears_3 6 rfl rfl)
theorem dX2_passYears_75 : decode cX2_passYears 75 = .ok (.invokevirtual 50, 3) := dk_182 0 50 (dk_at dksX2_passYears_3 9 rfl rfl)
theorem dX2_passYears_78 : decode cX2_passYears 78 = .ok (.astore 4, 2) := dk_58 4 (dk_at dksX2_passYears_3 12 rfl rfl)
theorem dX2_passYears_80 : decode cX2_passYears 80 = .ok (.aload 4, 2) := dk_25 4 (dk_at dksX2_passYears_3 14 rfl rfl)
theorem dX2_passYears_82 : decode cX2_passYears 82 = .ok (.invokeinterface 54 1, 5) := by decide +kernel
theorem dX2_passYears_87 : decode cX2_passYears 87 = .ok (.ifCond .eq 24, 3) := dk_153 0 24 (dk_at dksX2_passYears_3 21 rfl rfl)
theorem dX2_passYears_90 : decode cX2_passYears 90 = .ok (.aload 4, 2) := dk_25 4 (dk_at dksX2_passYears_4 0 rfl rfl)
theorem dX2_passYears_92 : decode cX2_passYears 92 = .ok (.invokeinterface 60 1, 5) := by decide +kernel
theorem dX2_passYears_97 : decode cX2_passYears 97 = .ok (.checkcast 86, 3) := dk_192 0 86 (dk_at dksX2_passYears_4 7 rfl rfl)
theorem dX2_passYears_100 : decode cX2_passYears 100 = .ok (.astore 5, 2) := dk_58 5 (dk_at dksX2_passYears_4 10 rfl rfl)
theorem dX2_passYears_102 : decode cX2_passYears 102 = .ok (.aload 5, 2) := dk_25 5 (dk_at dksX2_passYears_4 12 rfl rfl)
theorem dX2_passYears_104 : decode cX2_passYears 104 = .ok (.iconst 0, 1) := dk_3 (dk_at dksX2_passYears_4 14 rfl rfl)
theorem dX2_passYears_105 : decode cX2_passYears 105 = .ok (.putfield 101, 3) := dk_181 0 101 (dk_at dksX2_passYears_4 15 rfl rfl)
theorem dX2_passYears_108 : decode cX2_passYears 108 = .ok (.goto (-28), 3) := dk_167 255 228 (dk_at dksX2_passYears_4 18 rfl rfl)
theorem dX2_passYears_111 : decode cX2_passYears 111 = .ok (.aload_n 0, 1) := dk_42 (dk_at dksX2_passYears_4 21 rfl rfl)
theorem dX2_passYears_112 : decode cX2_passYears 112 = .ok (.dup, 1) := dk_89 (dk_at dksX2_passYears_4 22 rfl rfl)
theorem dX2_passYears_113 : decode cX2_passYears 113 = .ok (.getfield 114, 3) := dk_180 0 114 (dk_at dksX2_passYears_5 0 rfl rfl)
theorem dX2_passYears_116 : decode cX2_passYears 116 = .ok (.iconst 1, 1) := dk_4 (dk_at dksX2_passYears_5 3 rfl rfl)
theorem dX2_passYears_117 : decode cX2_passYears 117 = .ok (.iadd, 1) := dk_96 (dk_at dksX2_passYears_5 4 rfl rfl)
theorem dX2_passYears_118 : decode cX2_passYears 118 = .ok (.putfield 114, 3) := dk_181 0 114 (dk_at dksX2_passYears_5 5 rfl rfl)
theorem dX2_passYears_121 : decode cX2_passYears 121 = .ok (.iinc 3 1, 3) := dk_132 3 1 (dk_at dksX2_passYears_5 8 rfl rfl)
theorem dX2_passYears_124 : decode cX2_passYears 124 = .ok (.goto (-120), 3) := dk_167 255 136 (dk_at dksX2_passYears_5 11 rfl rfl)
theorem dX2_passYears_127 : decode cX2_passYears 127 = .ok (.iload_n 2, 1) := dk_28 (dk_at dksX2_passYears_5 14 rfl rfl)
theorem dX2_passYears_128 : decode cX2_passYears 128 = .ok (.ireturn, 1) := dk_172 (dk_at dksX2_passYears_5 15 rfl rfl)
def dkwX2_livingDescendants_2 : List UInt8 := [182, 0, 168, 153, 0, 7, 4, 167, 0, 4, 3, 184, 0, 164, 96, 61, 167, 255, 208, 28, 172]
abbrev dktX2_livingDescendants_2 : List UInt8 := dkwX2_livingDescendants_2 ++ []
def dkwX2_livingDescendants_1 : List UInt8 := [185, 0, 60, 1, 0, 192, 0, 64, 58, 4, 28, 25, 4, 180, 0, 82, 153, 0, 16, 43, 25, 4]
abbrev dktX2_livingDescendants_1 : List UInt8 := dkwX2_livingDescendants_1 ++ dktX2_livingDescendants_2
def dkwX2_livingDescendants_0 : List UInt8 := [3, 61, 42, 180, 0, 12, 182, 0, 50, 78, 45, 185, 0, 54, 1, 0, 153, 0, 45, 45]
abbrev dktX2_livingDescendants_0 : List UInt8 := dkwX2_livingDescendants_0 ++ dktX2_livingDescendants_1
theorem dksX2_livingDescendants_0 : cX2_livingDescendants.data.toList.drop 0 = dktX2_livingDescendants_0 := by decide +kernel
theorem dksX2_livingDescendants_1 : cX2_livingDescendants.data.toList.drop 20 = dktX2_livingDescendants_1 := dk_seg dksX2_livingDescendants_0 20 rfl rfl
theorem dksX2_livingDescendants_2 : cX2_livingDescendants.data.toList.drop 42 = dktX2_livingDescendants_2 := dk_seg dksX2_livingDescendants_1 22 rfl rfl
theorem dX2_livingDescendants_0 : decode cX2_livingDescendants 0 = .ok (.iconst 0, 1) := dk_3 (dk_at dksX2_livingDescendants_0 0 rfl rfl)
theorem dX2_livingDescendants_1 : decode cX2_livingDescendants 1 = .ok (.istore_n 2, 1) := dk_61 (dk_at dksX2_livingDescendants_0 1 rfl rfl)
theorem dX2_livingDescendants_2 : decode cX2_livingDescendants 2 = .ok (.aload_n 0, 1) := dk_42 (dk_at dksX2_livingDescendants_0 2 rfl rfl)
theorem dX2_livingDescendants_3 : decode cX2_livingDescendants 3 = .ok (.getfield 12, 3) := dk_180 0 12 (dk_at dksX2_livingDescendants_0 3 rfl rfl)
theorem dX2_livingDescendants_6 : decode cX2_livingDescendants 6 = .ok (.invokevirtual 50, 3) := dk_182 0 50 (dk_at dksX2_livingDescendants_0 6 rfl rfl)
theorem dX2_livingDescendants_9 : decode cX2_livingDescendants 9 = .ok (.astore_n 3, 1) := dk_78 (dk_at dksX2_livingDescendants_0 9 rfl rfl)
theorem dX2_livingDescendants_10 : decode cX2_livingDescendants 10 = .ok (.aload_n 3, 1) := dk_45 (dk_at dksX2_livingDescendants_0 10 rfl rfl)
theorem dX2_livingDescendants_11 : decode cX2_livingDescendants 11 = .ok (.invokeinterface 54 1, 5) := by decide +kernel
theorem dX2_livingDescendants_16 : decode cX2_livingDescendants 16 = .ok (.ifCond .eq 45, 3) := dk_153 0 45 (dk_at dksX2_livingDescendants_0 16 rfl rfl)
theorem dX2_livingDescendants_19 : decode cX2_livingDescendants 19 = .ok (.aload_n 3, 1) := dk_45 (dk_at dksX2_livingDescendants_0 19 rfl rfl)
theorem dX2_livingDescendants_20 : decode cX2_livingDescendants 20 = .ok (.invokeinterface 60 1, 5) := by decide +kernel
theorem dX2_livingDescendants_25 : decode cX2_livingDescendants 25 = .ok (.checkcast 64, 3) := dk_192 0 64 (dk_at dksX2_livingDescendants_1 5 rfl rfl)
theorem dX2_livingDescendants_28 : decode cX2_livingDescendants 28 = .ok (.astore 4, 2) := dk_58 4 (dk_at dksX2_livingDescendants_1 8 rfl rfl)
theorem dX2_livingDescendants_30 : decode cX2_livingDescendants 30 = .ok (.iload_n 2, 1) := dk_28 (dk_at dksX2_livingDescendants_1 10 rfl rfl)
theorem dX2_livingDescendants_31 : decode cX2_livingDescendants 31 = .ok (.aload 4, 2) := dk_25 4 (dk_at dksX2_livingDescendants_1 11 rfl rfl)
theorem dX2_livingDescendants_33 : decode cX2_livingDescendants 33 = .ok (.getfield 82, 3) := dk_180 0 82 (dk_at dksX2_livingDescendants_1 13 rfl rfl)
theorem dX2_livingDescendants_36 : decode cX2_livingDescendants 36 = .ok (.ifCond .eq 16, 3) := dk_153 0 16 (dk_at dksX2_livingDescendants_1 16 rfl rfl)
theorem dX2_livingDescendants_39 : decode cX2_livingDescendants 39 = .ok (.aload_n 1, 1) := dk_43 (dk_at dksX2_livingDescendants_1 19 rfl rfl)
theorem dX2_livingDescendants_40 : decode cX2_livingDescendants 40 = .ok (.aload 4, 2) := dk_25 4 (dk_at dksX2_livingDescendants_1 20 rfl rfl)
theorem dX2_livingDescendants_42 : decode cX2_livingDescendants 42 = .ok (.invokevirtual 168, 3) := dk_182 0 168 (dk_at dksX2_livingDescendants_2 0 rfl rfl)
theorem dX2_livingDescendants_45 : decode cX2_livingDescendants 45 = .ok (.ifCond .eq 7, 3) := dk_153 0 7 (dk_at dksX2_livingDescendants_2 3 rfl rfl)
theorem dX2_livingDescendants_48 : decode cX2_livingDescendants 48 = .ok (.iconst 1, 1) := dk_4 (dk_at dksX2_livingDescendants_2 6 rfl rfl)
theorem dX2_livingDescendants_49 : decode cX2_livingDescendants 49 = .ok (.goto 4, 3) := dk_167 0 4 (dk_at dksX2_livingDescendants_2 7 rfl rfl)
theorem dX2_livingDescendants_52 : decode cX2_livingDescendants 52 = .ok (.iconst 0, 1) := dk_3 (dk_at dksX2_livingDescendants_2 10 rfl rfl)
theorem dX2_livingDescendants_53 : decode cX2_livingDescendants 53 = .ok (.invokestatic 164, 3) := dk_184 0 164 (dk_at dksX2_livingDescendants_2 11 rfl rfl)
theorem dX2_livingDescendants_56 : decode cX2_livingDescendants 56 = .ok (.iadd, 1) := dk_96 (dk_at dksX2_livingDescendants_2 14 rfl rfl)
theorem dX2_livingDescendants_57 : decode cX2_livingDescendants 57 = .ok (.istore_n 2, 1) := dk_61 (dk_at dksX2_livingDescendants_2 15 rfl rfl)
theorem dX2_livingDescendants_58 : decode cX2_livingDescendants 58 = .ok (.goto (-48), 3) := dk_167 255 208 (dk_at dksX2_livingDescendants_2 16 rfl rfl)
theorem dX2_livingDescendants_61 : decode cX2_livingDescendants 61 = .ok (.iload_n 2, 1) := dk_28 (dk_at dksX2_livingDescendants_2 19 rfl rfl)
theorem dX2_livingDescendants_62 : decode cX2_livingDescendants 62 = .ok (.ireturn, 1) := dk_172 (dk_at dksX2_livingDescendants_2 20 rfl rfl)
def dkwX2_successionPosition_2 : List UInt8 := [25, 4, 43, 182, 0, 192, 153, 0, 7, 4, 167, 0, 4, 3, 184, 0, 164, 96, 61, 167, 255, 203, 28, 172]
abbrev dktX2_successionPosition_2 : List UInt8 := dkwX2_successionPosition_2 ++ []
def dkwX2_successionPosition_1 : List UInt8 := [185, 0, 60, 1, 0, 192, 0, 64, 58, 4, 28, 25, 4, 182, 0, 188, 43, 182, 0, 188, 166, 0, 17, 42]
abbrev dktX2_successionPosition_1 : List UInt8 := dkwX2_successionPosition_1 ++ dktX2_successionPosition_2
def dkwX2_successionPosition_0 : List UInt8 := [3, 61, 42, 180, 0, 12, 182, 0, 50, 78, 45, 185, 0, 54, 1, 0, 153, 0, 50, 45]
abbrev dktX2_successionPosition_0 : List UInt8 := dkwX2_successionPosition_0 ++ dktX2_successionPosition_1
theorem dksX2_successionPosition_0 : cX2_successionPosition.data.toList.drop 0 = dktX2_successionPosition_0 := by decide +kernel
theorem dksX2_successionPosition_1 : cX2_successionPosition.data.toList.drop 20 = dktX2_successionPosition_1 := dk_seg dksX2_successionPosition_0 20 rfl rfl
theorem dksX2_successionPosition_2 : cX2_successionPosition.data.toList.drop 44 = dktX2_successionPosition_2 := dk_seg dksX2_successionPosition_1 24 rfl rfl
theorem dX2_successionPosition_0 : decode cX2_successionPosition 0 = .ok (.iconst 0, 1) := dk_3 (dk_at dksX2_successionPosition_0 0 rfl rfl)
theorem dX2_successionPosition_1 : decode cX2_successionPosition 1 = .ok (.istore_n 2, 1) := dk_61 (dk_at dksX2_successionPosition_0 1 rfl rfl)
theorem dX2_successionPosition_2 : decode cX2_successionPosition 2 = .ok (.aload_n 0, 1) := dk_42 (dk_at dksX2_successionPosition_0 2 rfl rfl)
theorem dX2_successionPosition_3 : decode cX2_successionPosition 3 = .ok (.getfield 12, 3) := dk_180 0 12 (dk_at dksX2_successionPosition_0 3 rfl rfl)
theorem dX2_successionPosition_6 : decode cX2_successionPosition 6 = .ok (.invokevirtual 50, 3) := dk_182 0 50 (dk_at dksX2_successionPosition_0 6 rfl rfl)
theorem dX2_successionPosition_9 : decode cX2_successionPosition 9 = .ok (.astore_n 3, 1) := dk_78 (dk_at dksX2_successionPosition_0 9 rfl rfl)
theorem dX2_successionPosition_10 : decode cX2_successionPosition 10 = .ok (.aload_n 3, 1) := dk_45 (dk_at dksX2_successionPosition_0 10 rfl rfl)
theorem dX2_successionPosition_11 : decode cX2_successionPosition 11 = .ok (.invokeinterface 54 1, 5) := by decide +kernel
theorem dX2_successionPosition_16 : decode cX2_successionPosition 16 = .ok (.ifCond .eq 50, 3) := dk_153 0 50 (dk_at dksX2_successionPosition_0 16 rfl rfl)
theorem dX2_successionPosition_19 : decode cX2_successionPosition 19 = .ok (.aload_n 3, 1) := dk_45 (dk_at dksX2_successionPosition_0 19 rfl rfl)
theorem dX2_successionPosition_20 : decode cX2_successionPosition 20 = .ok (.invokeinterface 60 1, 5) := by decide +kernel
theorem dX2_successionPosition_25 : decode cX2_successionPosition 25 = .ok (.checkcast 64, 3) := dk_192 0 64 (dk_at dksX2_successionPosition_1 5 rfl rfl)
theorem dX2_successionPosition_28 : decode cX2_successionPosition 28 = .ok (.astore 4, 2) := dk_58 4 (dk_at dksX2_successionPosition_1 8 rfl rfl)
theorem dX2_successionPosition_30 : decode cX2_successionPosition 30 = .ok (.iload_n 2, 1) := dk_28 (dk_at dksX2_successionPosition_1 10 rfl rfl)
theorem dX2_successionPosition_31 : decode cX2_successionPosition 31 = .ok (.aload 4, 2) := dk_25 4 (dk_at dksX2_successionPosition_1 11 rfl rfl)
theorem dX2_successionPosition_33 : decode cX2_successionPosition 33 = .ok (.invokevirtual 188, 3) := dk_182 0 188 (dk_at dksX2_successionPosition_1 13 rfl rfl)
theorem dX2_successionPosition_36 : decode cX2_successionPosition 36 = .ok (.aload_n 1, 1) := dk_43 (dk_at dksX2_successionPosition_1 16 rfl rfl)
theorem dX2_successionPosition_37 : decode cX2_successionPosition 37 = .ok (.invokevirtual 188, 3) := dk_182 0 188 (dk_at dksX2_successionPosition_1 17 rfl rfl)
theorem dX2_successionPosition_40 : decode cX2_successionPosition 40 = .ok (.if_acmp .ne 17, 3) := dk_166 0 17 (dk_at dksX2_successionPosition_1 20 rfl rfl)
theorem dX2_successionPosition_43 : decode cX2_successionPosition 43 = .ok (.aload_n 0, 1) := dk_42 (dk_at dksX2_successionPosition_1 23 rfl rfl)
theorem dX2_successionPosition_44 : decode cX2_successionPosition 44 = .ok (.aload 4, 2) := dk_25 4 (dk_at dksX2_successionPosition_2 0 rfl rfl)
theorem dX2_successionPosition_46 : decode cX2_successionPosition 46 = .ok (.aload_n 1, 1) := dk_43 (dk_at dksX2_successionPosition_2 2 rfl rfl)
theorem dX2_successionPosition_47 : decode cX2_successionPosition 47 = .ok (.invokevirtual 192, 3) := dk_182 0 192 (dk_at dksX2_successionPosition_2 3 rfl rfl)
theorem dX2_successionPosition_50 : decode cX2_successionPosition 50 = .ok (.ifCond .eq 7, 3) := dk_153 0 7 (dk_at dksX2_successionPosition_2 6 rfl rfl)
theorem dX2_successionPosition_53 : decode cX2_successionPosition 53 = .ok (.iconst 1, 1) := dk_4 (dk_at dksX2_successionPosition_2 9 rfl rfl)
theorem dX2_successionPosition_54 : decode cX2_successionPosition 54 = .ok (.goto 4, 3) := dk_167 0 4 (dk_at dksX2_successionPosition_2 10 rfl rfl)
theorem dX2_successionPosition_57 : decode cX2_successionPosition 57 = .ok (.iconst 0, 1) := dk_3 (dk_at dksX2_successionPosition_2 13 rfl rfl)
theorem dX2_successionPosition_58 : decode cX2_successionPosition 58 = .ok (.invokestatic 164, 3) := dk_184 0 164 (dk_at dksX2_successionPosition_2 14 rfl rfl)
theorem dX2_successionPosition_61 : decode cX2_successionPosition 61 = .ok (.iadd, 1) := dk_96 (dk_at dksX2_successionPosition_2 17 rfl rfl)
theorem dX2_successionPosition_62 : decode cX2_successionPosition 62 = .ok (.istore_n 2, 1) := dk_61 (dk_at dksX2_successionPosition_2 18 rfl rfl)
theorem dX2_successionPosition_63 : decode cX2_successionPosition 63 = .ok (.goto (-53), 3) := dk_167 255 203 (dk_at dksX2_successionPosition_2 19 rfl rfl)
theorem dX2_successionPosition_66 : decode cX2_successionPosition 66 = .ok (.iload_n 2, 1) := dk_28 (dk_at dksX2_successionPosition_2 22 rfl rfl)
theorem dX2_successionPosition_67 : decode cX2_successionPosition 67 = .ok (.ireturn, 1) := dk_172 (dk_at dksX2_successionPosition_2 23 rfl rfl)
def dkwX2_habitAt_0 : List UInt8 := [42, 42, 27, 186, 0, 253, 0, 0, 182, 0, 160, 176]
abbrev dktX2_habitAt_0 : List UInt8 := dkwX2_habitAt_0 ++ []
theorem dksX2_habitAt_0 : cX2_habitAt.data.toList.drop 0 = dktX2_habitAt_0 := by decide +kernel
theorem dX2_habitAt_0 : decode cX2_habitAt 0 = .ok (.aload_n 0, 1) := dk_42 (dk_at dksX2_habitAt_0 0 rfl rfl)
theorem dX2_habitAt_1 : decode cX2_habitAt 1 = .ok (.aload_n 0, 1) := dk_42 (dk_at dksX2_habitAt_0 1 rfl rfl)
theorem dX2_habitAt_2 : decode cX2_habitAt 2 = .ok (.iload_n 1, 1) := dk_27 (dk_at dksX2_habitAt_0 2 rfl rfl)
theorem dX2_habitAt_3 : decode cX2_habitAt 3 = .ok (.invokedynamic 253, 5) := by decide +kernel
theorem dX2_habitAt_8 : decode cX2_habitAt 8 = .ok (.invokevirtual 160, 3) := dk_182 0 160 (dk_at dksX2_habitAt_0 8 rfl rfl)
theorem dX2_habitAt_11 : decode cX2_habitAt 11 = .ok (.areturn, 1) := dk_176 (dk_at dksX2_habitAt_0 11 rfl rfl)
def dkwX2_lambda_habitAt_8_1 : List UInt8 := [160, 0, 7, 4, 167, 0, 4, 3, 172]
abbrev dktX2_lambda_habitAt_8_1 : List UInt8 := dkwX2_lambda_habitAt_8_1 ++ []
def dkwX2_lambda_habitAt_8_0 : List UInt8 := [44, 182, 0, 104, 154, 0, 25, 42, 44, 186, 1, 25, 0, 0, 42, 180, 0, 38, 182, 0, 153, 27]
abbrev dktX2_lambda_habitAt_8_0 : List UInt8 := dkwX2_lambda_habitAt_8_0 ++ dktX2_lambda_habitAt_8_1
theorem dksX2_lambda_habitAt_8_0 : cX2_lambda_habitAt_8.data.toList.drop 0 = dktX2_lambda_habitAt_8_0 := by decide +kernel
theorem dksX2_lambda_habitAt_8_1 : cX2_lambda_habitAt_8.data.toList.drop 22 = dktX2_lambda_habitAt_8_1 := dk_seg dksX2_lambda_habitAt_8_0 22 rfl rfl
theorem dX2_lambda_habitAt_8_0 : decode cX2_lambda_habitAt_8 0 = .ok (.aload_n 2, 1) := dk_44 (dk_at dksX2_lambda_habitAt_8_0 0 rfl rfl)
theorem dX2_lambda_habitAt_8_1 : decode cX2_lambda_habitAt_8 1 = .ok (.invokevirtual 104, 3) := dk_182 0 104 (dk_at dksX2_lambda_habitAt_8_0 1 rfl rfl)
theorem dX2_lambda_habitAt_8_4 : decode cX2_lambda_habitAt_8 4 = .ok (.ifCond .ne 25, 3) := dk_154 0 25 (dk_at dksX2_lambda_habitAt_8_0 4 rfl rfl)
theorem dX2_lambda_habitAt_8_7 : decode cX2_lambda_habitAt_8 7 = .ok (.aload_n 0, 1) := dk_42 (dk_at dksX2_lambda_habitAt_8_0 7 rfl rfl)
theorem dX2_lambda_habitAt_8_8 : decode cX2_lambda_habitAt_8 8 = .ok (.aload_n 2, 1) := dk_44 (dk_at dksX2_lambda_habitAt_8_0 8 rfl rfl)
theorem dX2_lambda_habitAt_8_9 : decode cX2_lambda_habitAt_8 9 = .ok (.invokedynamic 281, 5) := by decide +kernel
theorem dX2_lambda_habitAt_8_14 : decode cX2_lambda_habitAt_8 14 = .ok (.aload_n 0, 1) := dk_42 (dk_at dksX2_lambda_habitAt_8_0 14 rfl rfl)
theorem dX2_lambda_habitAt_8_15 : decode cX2_lambda_habitAt_8 15 = .ok (.getfield 38, 3) := dk_180 0 38 (dk_at dksX2_lambda_habitAt_8_0 15 rfl rfl)
theorem dX2_lambda_habitAt_8_18 : decode cX2_lambda_habitAt_8 18 = .ok (.invokevirtual 153, 3) := dk_182 0 153 (dk_at dksX2_lambda_habitAt_8_0 18 rfl rfl)
theorem dX2_lambda_habitAt_8_21 : decode cX2_lambda_habitAt_8 21 = .ok (.iload_n 1, 1) := dk_27 (dk_at dksX2_lambda_habitAt_8_0 21 rfl rfl)
theorem dX2_lambda_habitAt_8_22 : decode cX2_lambda_habitAt_8 22 = .ok (.if_icmp .ne 7, 3) := dk_160 0 7 (dk_at dksX2_lambda_habitAt_8_1 0 rfl rfl)
theorem dX2_lambda_habitAt_8_25 : decode cX2_lambda_habitAt_8 25 = .ok (.iconst 1, 1) := dk_4 (dk_at dksX2_lambda_habitAt_8_1 3 rfl rfl)
theorem dX2_lambda_habitAt_8_26 : decode cX2_lambda_habitAt_8 26 = .ok (.goto 4, 3) := dk_167 0 4 (dk_at dksX2_lambda_habitAt_8_1 4 rfl rfl)
theorem dX2_lambda_habitAt_8_29 : decode cX2_lambda_habitAt_8 29 = .ok (.iconst 0, 1) := dk_3 (dk_at dksX2_lambda_habitAt_8_1 7 rfl rfl)
theorem dX2_lambda_habitAt_8_30 : decode cX2_lambda_habitAt_8 30 = .ok (.ireturn, 1) := dk_172 (dk_at dksX2_lambda_habitAt_8_1 8 rfl rfl)
def dkwX2_lambda_habitAt_7_0 : List UInt8 := [43, 182, 0, 104, 154, 0, 15, 43, 42, 182, 1, 28, 153, 0, 7, 4, 167, 0, 4, 3, 172]
abbrev dktX2_lambda_habitAt_7_0 : List UInt8 := dkwX2_lambda_habitAt_7_0 ++ []
theorem dksX2_lambda_habitAt_7_0 : cX2_lambda_habitAt_7.data.toList.drop 0 = dktX2_lambda_habitAt_7_0 := by decide +kernel
theorem dX2_lambda_habitAt_7_0 : decode cX2_lambda_habitAt_7 0 = .ok (.aload_n 1, 1) := dk_43 (dk_at dksX2_lambda_habitAt_7_0 0 rfl rfl)
theorem dX2_lambda_habitAt_7_1 : decode cX2_lambda_habitAt_7 1 = .ok (.invokevirtual 104, 3) := dk_182 0 104 (dk_at dksX2_lambda_habitAt_7_0 1 rfl rfl)
theorem dX2_lambda_habitAt_7_4 : decode cX2_lambda_habitAt_7 4 = .ok (.ifCond .ne 15, 3) := dk_154 0 15 (dk_at dksX2_lambda_habitAt_7_0 4 rfl rfl)
theorem dX2_lambda_habitAt_7_7 : decode cX2_lambda_habitAt_7 7 = .ok (.aload_n 1, 1) := dk_43 (dk_at dksX2_lambda_habitAt_7_0 7 rfl rfl)
theorem dX2_lambda_habitAt_7_8 : decode cX2_lambda_habitAt_7 8 = .ok (.aload_n 0, 1) := dk_42 (dk_at dksX2_lambda_habitAt_7_0 8 rfl rfl)
theorem dX2_lambda_habitAt_7_9 : decode cX2_lambda_habitAt_7 9 = .ok (.invokevirtual 284, 3) := dk_182 1 28 (dk_at dksX2_lambda_habitAt_7_0 9 rfl rfl)
theorem dX2_lambda_habitAt_7_12 : decode cX2_lambda_habitAt_7 12 = .ok (.ifCond .eq 7, 3) := dk_153 0 7 (dk_at dksX2_lambda_habitAt_7_0 12 rfl rfl)
theorem dX2_lambda_habitAt_7_15 : decode cX2_lambda_habitAt_7 15 = .ok (.iconst 1, 1) := dk_4 (dk_at dksX2_lambda_habitAt_7_0 15 rfl rfl)
theorem dX2_lambda_habitAt_7_16 : decode cX2_lambda_habitAt_7 16 = .ok (.goto 4, 3) := dk_167 0 4 (dk_at dksX2_lambda_habitAt_7_0 16 rfl rfl)
theorem dX2_lambda_habitAt_7_19 : decode cX2_lambda_habitAt_7 19 = .ok (.iconst 0, 1) := dk_3 (dk_at dksX2_lambda_habitAt_7_0 19 rfl rfl)
theorem dX2_lambda_habitAt_7_20 : decode cX2_lambda_habitAt_7 20 = .ok (.ireturn, 1) := dk_172 (dk_at dksX2_lambda_habitAt_7_0 20 rfl rfl)
def dkwX2_personAt_5 : List UInt8 := [167, 255, 149, 1, 176]
abbrev dktX2_personAt_5 : List UInt8 := dkwX2_personAt_5 ++ []
def dkwX2_personAt_4 : List UInt8 := [184, 0, 164, 96, 54, 4, 167, 255, 198, 45, 180, 0, 82, 153, 0, 11, 21, 4, 27, 160, 0, 5, 45, 176]
abbrev dktX2_personAt_4 : List UInt8 := dkwX2_personAt_4 ++ dktX2_personAt_5
def dkwX2_personAt_3 : List UInt8 := [153, 0, 22, 42, 180, 0, 45, 25, 6, 45, 185, 0, 199, 3, 0, 153, 0, 7, 4, 167, 0, 4, 3]
abbrev dktX2_personAt_3 : List UInt8 := dkwX2_personAt_3 ++ dktX2_personAt_4
def dkwX2_personAt_2 : List UInt8 := [153, 0, 54, 25, 5, 185, 0, 60, 1, 0, 192, 0, 64, 58, 6, 21, 4, 25, 6, 180, 0, 82]
abbrev dktX2_personAt_2 : List UInt8 := dkwX2_personAt_2 ++ dktX2_personAt_3
def dkwX2_personAt_1 : List UInt8 := [192, 0, 64, 78, 3, 54, 4, 42, 180, 0, 12, 182, 0, 50, 58, 5, 25, 5, 185, 0, 54, 1, 0]
abbrev dktX2_personAt_1 : List UInt8 := dkwX2_personAt_1 ++ dktX2_personAt_2
def dkwX2_personAt_0 : List UInt8 := [42, 180, 0, 12, 182, 0, 50, 77, 44, 185, 0, 54, 1, 0, 153, 0, 104, 44, 185, 0, 60, 1, 0]
abbrev dktX2_personAt_0 : List UInt8 := dkwX2_personAt_0 ++ dktX2_personAt_1
theorem dksX2_personAt_0 : cX2_personAt.data.toList.drop 0 = dktX2_personAt_0 := by decide +kernel
theorem dksX2_personAt_1 : cX2_personAt.data.toList.drop 23 = dktX2_personAt_1 := dk_seg dksX2_personAt_0 23 rfl rfl
theorem dksX2_personAt_2 : cX2_personAt.data.toList.drop 46 = dktX2_personAt_2 := dk_seg dksX2_personAt_1 23 rfl rfl
theorem dksX2_personAt_3 : cX2_personAt.data.toList.drop 68 = dktX2_personAt_3 := dk_seg dksX2_personAt_2 22 rfl rfl
theorem dksX2_personAt_4 : cX2_personAt.data.toList.drop 91 = dktX2_personAt_4 := dk_seg dksX2_personAt_3 23 rfl rfl
theorem dksX2_personAt_5 : cX2_personAt.data.toList.drop 115 = dktX2_personAt_5 := dk_seg dksX2_personAt_4 24 rfl rfl
theorem dX2_personAt_0 : decode cX2_personAt 0 = .ok (.aload_n 0, 1) := dk_42 (dk_at dksX2_personAt_0 0 rfl rfl)
theorem dX2_personAt_1 : decode cX2_personAt 1 = .ok (.getfield 12, 3) := dk_180 0 12 (dk_at dksX2_personAt_0 1 rfl rfl)
theorem dX2_personAt_4 : decode cX2_personAt 4 = .ok (.invokevirtual 50, 3) := dk_182 0 50 (dk_at dksX2_personAt_0 4 rfl rfl)
theorem dX2_personAt_7 : decode cX2_personAt 7 = .ok (.astore_n 2, 1) := dk_77 (dk_at dksX2_personAt_0 7 rfl rfl)
theorem dX2_personAt_8 : decode cX2_personAt 8 = .ok (.aload_n 2, 1) := dk_44 (dk_at dksX2_personAt_0 8 rfl rfl)
theorem dX2_personAt_9 : decode cX2_personAt 9 = .ok (.invokeinterface 54 1, 5) := by decide +kernel
theorem dX2_personAt_14 : decode cX2_personAt 14 = .ok (.ifCond .eq 104, 3) := dk_153 0 104 (dk_at dksX2_personAt_0 14 rfl rfl)
theorem dX2_personAt_17 : decode cX2_personAt 17 = .ok (.aload_n 2, 1) := dk_44 (dk_at dksX2_personAt_0 17 rfl rfl)
theorem dX2_personAt_18 : decode cX2_personAt 18 = .ok (.invokeinterface 60 1, 5) := by decide +kernel
theorem dX2_personAt_23 : decode cX2_personAt 23 = .ok (.checkcast 64, 3) := dk_192 0 64 (dk_at dksX2_personAt_1 0 rfl rfl)
theorem dX2_personAt_26 : decode cX2_personAt 26 = .ok (.astore_n 3, 1) := dk_78 (dk_at dksX2_personAt_1 3 rfl rfl)
theorem dX2_personAt_27 : decode cX2_personAt 27 = .ok (.iconst 0, 1) := dk_3 (dk_at dksX2_personAt_1 4 rfl rfl)
theorem dX2_personAt_28 : decode cX2_personAt 28 = .ok (.istore 4, 2) := dk_54 4 (dk_at dksX2_personAt_1 5 rfl rfl)
theorem dX2_personAt_30 : decode cX2_personAt 30 = .ok (.aload_n 0, 1) := dk_42 (dk_at dksX2_personAt_1 7 rfl rfl)
theorem dX2_personAt_31 : decode cX2_personAt 31 = .ok (.getfield 12, 3) := dk_180 0 12 (dk_at dksX2_personAt_1 8 rfl rfl)
theorem dX2_personAt_34 : decode cX2_personAt 34 = .ok (.invokevirtual 50, 3) := dk_182 0 50 (dk_at dksX2_personAt_1 11 rfl rfl)
theorem dX2_personAt_37 : decode cX2_personAt 37 = .ok (.astore 5, 2) := dk_58 5 (dk_at dksX2_personAt_1 14 rfl rfl)
theorem dX2_personAt_39 : decode cX2_personAt 39 = .ok (.aload 5, 2) := dk_25 5 (dk_at dksX2_personAt_1 16 rfl rfl)
theorem dX2_personAt_41 : decode cX2_personAt 41 = .ok (.invokeinterface 54 1, 5) := by decide +kernel
theorem dX2_personAt_46 : decode cX2_personAt 46 = .ok (.ifCond .eq 54, 3) := dk_153 0 54 (dk_at dksX2_personAt_2 0 rfl rfl)
theorem dX2_personAt_49 : decode cX2_personAt 49 = .ok (.aload 5, 2) := dk_25 5 (dk_at dksX2_personAt_2 3 rfl rfl)
theorem dX2_personAt_51 : decode cX2_personAt 51 = .ok (.invokeinterface 60 1, 5) := by decide +kernel
theorem dX2_personAt_56 : decode cX2_personAt 56 = .ok (.checkcast 64, 3) := dk_192 0 64 (dk_at dksX2_personAt_2 10 rfl rfl)
theorem dX2_personAt_59 : decode cX2_personAt 59 = .ok (.astore 6, 2) := dk_58 6 (dk_at dksX2_personAt_2 13 rfl rfl)
theorem dX2_personAt_61 : decode cX2_personAt 61 = .ok (.iload 4, 2) := dk_21 4 (dk_at dksX2_personAt_2 15 rfl rfl)
theorem dX2_personAt_63 : decode cX2_personAt 63 = .ok (.aload 6, 2) := dk_25 6 (dk_at dksX2_personAt_2 17 rfl rfl)
theorem dX2_personAt_65 : decode cX2_personAt 65 = .ok (.getfield 82, 3) := dk_180 0 82 (dk_at dksX2_personAt_2 19 rfl rfl)
theorem dX2_personAt_68 : decode cX2_personAt 68 = .ok (.ifCond .eq 22, 3) := dk_153 0 22 (dk_at dksX2_personAt_3 0 rfl rfl)
theorem dX2_personAt_71 : decode cX2_personAt 71 = .ok (.aload_n 0, 1) := dk_42 (dk_at dksX2_personAt_3 3 rfl rfl)
theorem dX2_personAt_72 : decode cX2_personAt 72 = .ok (.getfield 45, 3) := dk_180 0 45 (dk_at dksX2_personAt_3 4 rfl rfl)
theorem dX2_personAt_75 : decode cX2_personAt 75 = .ok (.aload 6, 2) := dk_25 6 (dk_at dksX2_personAt_3 7 rfl rfl)
theorem dX2_personAt_77 : decode cX2_personAt 77 = .ok (.aload_n 3, 1) := dk_45 (dk_at dksX2_personAt_3 9 rfl rfl)
theorem dX2_personAt_78 : decode cX2_personAt 78 = .ok (.invokeinterface 199 3, 5) := by decide +kernel
theorem dX2_personAt_83 : decode cX2_personAt 83 = .ok (.ifCond .eq 7, 3) := dk_153 0 7 (dk_at dksX2_personAt_3 15 rfl rfl)
theorem dX2_personAt_86 : decode cX2_personAt 86 = .ok (.iconst 1, 1) := dk_4 (dk_at dksX2_personAt_3 18 rfl rfl)
theorem dX2_personAt_87 : decode cX2_personAt 87 = .ok (.goto 4, 3) := dk_167 0 4 (dk_at dksX2_personAt_3 19 rfl rfl)
theorem dX2_personAt_90 : decode cX2_personAt 90 = .ok (.iconst 0, 1) := dk_3 (dk_at dksX2_personAt_3 22 rfl rfl)
theorem dX2_personAt_91 : decode cX2_personAt 91 = .ok (.invokestatic 164, 3) := dk_184 0 164 (dk_at dksX2_personAt_4 0 rfl rfl)
theorem dX2_personAt_94 : decode cX2_personAt 94 = .ok (.iadd, 1) := dk_96 (dk_at dksX2_personAt_4 3 rfl rfl)
theorem dX2_personAt_95 : decode cX2_personAt 95 = .ok (.istore 4, 2) := dk_54 4 (dk_at dksX2_personAt_4 4 rfl rfl)
theorem dX2_personAt_97 : decode cX2_personAt 97 = .ok (.goto (-58), 3) := dk_167 255 198 (dk_at dksX2_personAt_4 6 rfl rfl)
theorem dX2_personAt_100 : decode cX2_personAt 100 = .ok (.aload_n 3, 1) := dk_45 (dk_at dksX2_personAt_4 9 rfl rfl)
theorem dX2_personAt_101 : decode cX2_personAt 101 = .ok (.getfield 82, 3) := dk_180 0 82 (dk_at dksX2_personAt_4 10 rfl rfl)
theorem dX2_personAt_104 : decode cX2_personAt 104 = .ok (.ifCond .eq 11, 3) := dk_153 0 11 (dk_at dksX2_personAt_4 13 rfl rfl)
theorem dX2_personAt_107 : decode cX2_personAt 107 = .ok (.iload 4, 2) := dk_21 4 (dk_at dksX2_personAt_4 16 rfl rfl)
theorem dX2_personAt_109 : decode cX2_personAt 109 = .ok (.iload_n 1, 1) := dk_27 (dk_at dksX2_personAt_4 18 rfl rfl)
theorem dX2_personAt_110 : decode cX2_personAt 110 = .ok (.if_icmp .ne 5, 3) := dk_160 0 5 (dk_at dksX2_personAt_4 19 rfl rfl)
theorem dX2_personAt_113 : decode cX2_personAt 113 = .ok (.aload_n 3, 1) := dk_45 (dk_at dksX2_personAt_4 22 rfl rfl)
theorem dX2_personAt_114 : decode cX2_personAt 114 = .ok (.areturn, 1) := dk_176 (dk_at dksX2_personAt_4 23 rfl rfl)
theorem dX2_personAt_115 : decode cX2_personAt 115 = .ok (.goto (-107), 3) := dk_167 255 149 (dk_at dksX2_personAt_5 0 rfl rfl)
theorem dX2_personAt_118 : decode cX2_personAt 118 = .ok (.aconst_null, 1) := dk_1 (dk_at dksX2_personAt_5 3 rfl rfl)
theorem dX2_personAt_119 : decode cX2_personAt 119 = .ok (.areturn, 1) := dk_176 (dk_at dksX2_personAt_5 4 rfl rfl)
def dkwX4_generation_0 : List UInt8 := [3, 60, 42, 180, 0, 24, 77, 44, 198, 0, 14, 132, 1, 1, 44, 180, 0, 24, 77, 167, 255, 244, 27, 172]
abbrev dktX4_generation_0 : List UInt8 := dkwX4_generation_0 ++ []
theorem dksX4_generation_0 : cX4_generation.data.toList.drop 0 = dktX4_generation_0 := by decide +kernel
theorem dX4_generation_0 : decode cX4_generation 0 = .ok (.iconst 0, 1) := dk_3 (dk_at dksX4_generation_0 0 rfl rfl)
theorem dX4_generation_1 : decode cX4_generation 1 = .ok (.istore_n 1, 1) := dk_60 (dk_at dksX4_generation_0 1 rfl rfl)
theorem dX4_generation_2 : decode cX4_generation 2 = .ok (.aload_n 0, 1) := dk_42 (dk_at dksX4_generation_0 2 rfl rfl)
theorem dX4_generation_3 : decode cX4_generation 3 = .ok (.getfield 24, 3) := dk_180 0 24 (dk_at dksX4_generation_0 3 rfl rfl)
theorem dX4_generation_6 : decode cX4_generation 6 = .ok (.astore_n 2, 1) := dk_77 (dk_at dksX4_generation_0 6 rfl rfl)
theorem dX4_generation_7 : decode cX4_generation 7 = .ok (.aload_n 2, 1) := dk_44 (dk_at dksX4_generation_0 7 rfl rfl)
theorem dX4_generation_8 : decode cX4_generation 8 = .ok (.ifnull 14, 3) := dk_198 0 14 (dk_at dksX4_generation_0 8 rfl rfl)
theorem dX4_generation_11 : decode cX4_generation 11 = .ok (.iinc 1 1, 3) := dk_132 1 1 (dk_at dksX4_generation_0 11 rfl rfl)
theorem dX4_generation_14 : decode cX4_generation 14 = .ok (.aload_n 2, 1) := dk_44 (dk_at dksX4_generation_0 14 rfl rfl)
theorem dX4_generation_15 : decode cX4_generation 15 = .ok (.getfield 24, 3) := dk_180 0 24 (dk_at dksX4_generation_0 15 rfl rfl)
theorem dX4_generation_18 : decode cX4_generation 18 = .ok (.astore_n 2, 1) := dk_77 (dk_at dksX4_generation_0 18 rfl rfl)
theorem dX4_generation_19 : decode cX4_generation 19 = .ok (.goto (-12), 3) := dk_167 255 244 (dk_at dksX4_generation_0 19 rfl rfl)
theorem dX4_generation_22 : decode cX4_generation 22 = .ok (.iload_n 1, 1) := dk_27 (dk_at dksX4_generation_0 22 rfl rfl)
theorem dX4_generation_23 : decode cX4_generation 23 = .ok (.ireturn, 1) := dk_172 (dk_at dksX4_generation_0 23 rfl rfl)
def dkwX4_firstLiving_2 : List UInt8 := [25, 4, 198, 0, 6, 25, 4, 176, 132, 2, 1, 167, 255, 199, 1, 176]
abbrev dktX4_firstLiving_2 : List UInt8 := dkwX4_firstLiving_2 ++ []
def dkwX4_firstLiving_1 : List UInt8 := [78, 45, 180, 0, 16, 153, 0, 12, 45, 43, 165, 0, 7, 45, 167, 0, 8, 45, 43, 182, 0, 36, 58, 4]
abbrev dktX4_firstLiving_1 : List UInt8 := dkwX4_firstLiving_1 ++ dktX4_firstLiving_2
def dkwX4_firstLiving_0 : List UInt8 := [3, 61, 28, 42, 180, 0, 10, 182, 0, 28, 162, 0, 52, 42, 180, 0, 10, 28, 182, 0, 32, 192, 0, 11]
abbrev dktX4_firstLiving_0 : List UInt8 := dkwX4_firstLiving_0 ++ dktX4_firstLiving_1
theorem dksX4_firstLiving_0 : cX4_firstLiving.data.toList.drop 0 = dktX4_firstLiving_0 := by decide +kernel
theorem dksX4_firstLiving_1 : cX4_firstLiving.data.toList.drop 24 = dktX4_firstLiving_1 := dk_seg dksX4_firstLiving_0 24 rfl rfl
theorem dksX4_firstLiving_2 : cX4_firstLiving.data.toList.drop 48 = dktX4_firstLiving_2 := dk_seg dksX4_firstLiving_1 24 rfl rfl
theorem dX4_firstLiving_0 : decode cX4_firstLiving 0 = .ok (.iconst 0, 1) := dk_3 (dk_at dksX4_firstLiving_0 0 rfl rfl)
theorem dX4_firstLiving_1 : decode cX4_firstLiving 1 = .ok (.istore_n 2, 1) := dk_61 (dk_at dksX4_firstLiving_0 1 rfl rfl)
theorem dX4_firstLiving_2 : decode cX4_firstLiving 2 = .ok (.iload_n 2, 1) := dk_28 (dk_at dksX4_firstLiving_0 2 rfl rfl)
theorem dX4_firstLiving_3 : decode cX4_firstLiving 3 = .ok (.aload_n 0, 1) := dk_42 (dk_at dksX4_firstLiving_0 3 rfl rfl)
theorem dX4_firstLiving_4 : decode cX4_firstLiving 4 = .ok (.getfield 10, 3) := dk_180 0 10 (dk_at dksX4_firstLiving_0 4 rfl rfl)
theorem dX4_firstLiving_7 : decode cX4_firstLiving 7 = .ok (.invokevirtual 28, 3) := dk_182 0 28 (dk_at dksX4_firstLiving_0 7 rfl rfl)
theorem dX4_firstLiving_10 : decode cX4_firstLiving 10 = .ok (.if_icmp .ge 52, 3) := dk_162 0 52 (dk_at dksX4_firstLiving_0 10 rfl rfl)
theorem dX4_firstLiving_13 : decode cX4_firstLiving 13 = .ok (.aload_n 0, 1) := dk_42 (dk_at dksX4_firstLiving_0 13 rfl rfl)
theorem dX4_firstLiving_14 : decode cX4_firstLiving 14 = .ok (.getfield 10, 3) := dk_180 0 10 (dk_at dksX4_firstLiving_0 14 rfl rfl)
theorem dX4_firstLiving_17 : decode cX4_firstLiving 17 = .ok (.iload_n 2, 1) := dk_28 (dk_at dksX4_firstLiving_0 17 rfl rfl)
theorem dX4_firstLiving_18 : decode cX4_firstLiving 18 = .ok (.invokevirtual 32, 3) := dk_182 0 32 (dk_at dksX4_firstLiving_0 18 rfl rfl)
theorem dX4_firstLiving_21 : decode cX4_firstLiving 21 = .ok (.checkcast 11, 3) := dk_192 0 11 (dk_at dksX4_firstLiving_0 21 rfl rfl)
theorem dX4_firstLiving_24 : decode cX4_firstLiving 24 = .ok (.astore_n 3, 1) := dk_78 (dk_at dksX4_firstLiving_1 0 rfl rfl)
theorem dX4_firstLiving_25 : decode cX4_firstLiving 25 = .ok (.aload_n 3, 1) := dk_45 (dk_at dksX4_firstLiving_1 1 rfl rfl)
theorem dX4_firstLiving_26 : decode cX4_firstLiving 26 = .ok (.getfield 16, 3) := dk_180 0 16 (dk_at dksX4_firstLiving_1 2 rfl rfl)
theorem dX4_firstLiving_29 : decode cX4_firstLiving 29 = .ok (.ifCond .eq 12, 3) := dk_153 0 12 (dk_at dksX4_firstLiving_1 5 rfl rfl)
theorem dX4_firstLiving_32 : decode cX4_firstLiving 32 = .ok (.aload_n 3, 1) := dk_45 (dk_at dksX4_firstLiving_1 8 rfl rfl)
theorem dX4_firstLiving_33 : decode cX4_firstLiving 33 = .ok (.aload_n 1, 1) := dk_43 (dk_at dksX4_firstLiving_1 9 rfl rfl)
theorem dX4_firstLiving_34 : decode cX4_firstLiving 34 = .ok (.if_acmp .eq 7, 3) := dk_165 0 7 (dk_at dksX4_firstLiving_1 10 rfl rfl)
theorem dX4_firstLiving_37 : decode cX4_firstLiving 37 = .ok (.aload_n 3, 1) := dk_45 (dk_at dksX4_firstLiving_1 13 rfl rfl)
theorem dX4_firstLiving_38 : decode cX4_firstLiving 38 = .ok (.goto 8, 3) := dk_167 0 8 (dk_at dksX4_firstLiving_1 14 rfl rfl)
theorem dX4_firstLiving_41 : decode cX4_firstLiving 41 = .ok (.aload_n 3, 1) := dk_45 (dk_at dksX4_firstLiving_1 17 rfl rfl)
theorem dX4_firstLiving_42 : decode cX4_firstLiving 42 = .ok (.aload_n 1, 1) := dk_43 (dk_at dksX4_firstLiving_1 18 rfl rfl)
theorem dX4_firstLiving_43 : decode cX4_firstLiving 43 = .ok (.invokevirtual 36, 3) := dk_182 0 36 (dk_at dksX4_firstLiving_1 19 rfl rfl)
theorem dX4_firstLiving_46 : decode cX4_firstLiving 46 = .ok (.astore 4, 2) := dk_58 4 (dk_at dksX4_firstLiving_1 22 rfl rfl)
theorem dX4_firstLiving_48 : decode cX4_firstLiving 48 = .ok (.aload 4, 2) := dk_25 4 (dk_at dksX4_firstLiving_2 0 rfl rfl)
theorem dX4_firstLiving_50 : decode cX4_firstLiving 50 = .ok (.ifnull 6, 3) := dk_198 0 6 (dk_at dksX4_firstLiving_2 2 rfl rfl)
theorem dX4_firstLiving_53 : decode cX4_firstLiving 53 = .ok (.aload 4, 2) := dk_25 4 (dk_at dksX4_firstLiving_2 5 rfl rfl)
theorem dX4_firstLiving_55 : decode cX4_firstLiving 55 = .ok (.areturn, 1) := dk_176 (dk_at dksX4_firstLiving_2 7 rfl rfl)
theorem dX4_firstLiving_56 : decode cX4_firstLiving 56 = .ok (.iinc 2 1, 3) := dk_132 2 1 (dk_at dksX4_firstLiving_2 8 rfl rfl)
theorem dX4_firstLiving_59 : decode cX4_firstLiving 59 = .ok (.goto (-57), 3) := dk_167 255 199 (dk_at dksX4_firstLiving_2 11 rfl rfl)
theorem dX4_firstLiving_62 : decode cX4_firstLiving 62 = .ok (.aconst_null, 1) := dk_1 (dk_at dksX4_firstLiving_2 14 rfl rfl)
theorem dX4_firstLiving_63 : decode cX4_firstLiving 63 = .ok (.areturn, 1) := dk_176 (dk_at dksX4_firstLiving_2 15 rfl rfl)
def dkwX4_isAncestorOf_1 : List UInt8 := [166, 0, 7, 4, 167, 0, 4, 3, 172]
abbrev dktX4_isAncestorOf_1 : List UInt8 := dkwX4_isAncestorOf_1 ++ []
def dkwX4_isAncestorOf_0 : List UInt8 := [43, 180, 0, 24, 77, 44, 198, 0, 16, 44, 42, 165, 0, 11, 44, 180, 0, 24, 77, 167, 255, 242, 44, 42]
abbrev dktX4_isAncestorOf_0 : List UInt8 := dkwX4_isAncestorOf_0 ++ dktX4_isAncestorOf_1
theorem dksX4_isAncestorOf_0 : cX4_isAncestorOf.data.toList.drop 0 = dktX4_isAncestorOf_0 := by decide +kernel
theorem dksX4_isAncestorOf_1 : cX4_isAncestorOf.data.toList.drop 24 = dktX4_isAncestorOf_1 := dk_seg dksX4_isAncestorOf_0 24 rfl rfl
theorem dX4_isAncestorOf_0 : decode cX4_isAncestorOf 0 = .ok (.aload_n 1, 1) := dk_43 (dk_at dksX4_isAncestorOf_0 0 rfl rfl)
theorem dX4_isAncestorOf_1 : decode cX4_isAncestorOf 1 = .ok (.getfield 24, 3) := dk_180 0 24 (dk_at dksX4_isAncestorOf_0 1 rfl rfl)
theorem dX4_isAncestorOf_4 : decode cX4_isAncestorOf 4 = .ok (.astore_n 2, 1) := dk_77 (dk_at dksX4_isAncestorOf_0 4 rfl rfl)
theorem dX4_isAncestorOf_5 : decode cX4_isAncestorOf 5 = .ok (.aload_n 2, 1) := dk_44 (dk_at dksX4_isAncestorOf_0 5 rfl rfl)
theorem dX4_isAncestorOf_6 : decode cX4_isAncestorOf 6 = .ok (.ifnull 16, 3) := dk_198 0 16 (dk_at dksX4_isAncestorOf_0 6 rfl rfl)
theorem dX4_isAncestorOf_9 : decode cX4_isAncestorOf 9 = .ok (.aload_n 2, 1) := dk_44 (dk_at dksX4_isAncestorOf_0 9 rfl rfl)
theorem dX4_isAncestorOf_10 : decode cX4_isAncestorOf 10 = .ok (.aload_n 0, 1) := dk_42 (dk_at dksX4_isAncestorOf_0 10 rfl rfl)
theorem dX4_isAncestorOf_11 : decode cX4_isAncestorOf 11 = .ok (.if_acmp .eq 11, 3) := dk_165 0 11 (dk_at dksX4_isAncestorOf_0 11 rfl rfl)
theorem dX4_isAncestorOf_14 : decode cX4_isAncestorOf 14 = .ok (.aload_n 2, 1) := dk_44 (dk_at dksX4_isAncestorOf_0 14 rfl rfl)
theorem dX4_isAncestorOf_15 : decode cX4_isAncestorOf 15 = .ok (.getfield 24, 3) := dk_180 0 24 (dk_at dksX4_isAncestorOf_0 15 rfl rfl)
theorem dX4_isAncestorOf_18 : decode cX4_isAncestorOf 18 = .ok (.astore_n 2, 1) := dk_77 (dk_at dksX4_isAncestorOf_0 18 rfl rfl)
theorem dX4_isAncestorOf_19 : decode cX4_isAncestorOf 19 = .ok (.goto (-14), 3) := dk_167 255 242 (dk_at dksX4_isAncestorOf_0 19 rfl rfl)
theorem dX4_isAncestorOf_22 : decode cX4_isAncestorOf 22 = .ok (.aload_n 2, 1) := dk_44 (dk_at dksX4_isAncestorOf_0 22 rfl rfl)
theorem dX4_isAncestorOf_23 : decode cX4_isAncestorOf 23 = .ok (.aload_n 0, 1) := dk_42 (dk_at dksX4_isAncestorOf_0 23 rfl rfl)
theorem dX4_isAncestorOf_24 : decode cX4_isAncestorOf 24 = .ok (.if_acmp .ne 7, 3) := dk_166 0 7 (dk_at dksX4_isAncestorOf_1 0 rfl rfl)
theorem dX4_isAncestorOf_27 : decode cX4_isAncestorOf 27 = .ok (.iconst 1, 1) := dk_4 (dk_at dksX4_isAncestorOf_1 3 rfl rfl)
theorem dX4_isAncestorOf_28 : decode cX4_isAncestorOf 28 = .ok (.goto 4, 3) := dk_167 0 4 (dk_at dksX4_isAncestorOf_1 4 rfl rfl)
theorem dX4_isAncestorOf_31 : decode cX4_isAncestorOf 31 = .ok (.iconst 0, 1) := dk_3 (dk_at dksX4_isAncestorOf_1 7 rfl rfl)
theorem dX4_isAncestorOf_32 : decode cX4_isAncestorOf 32 = .ok (.ireturn, 1) := dk_172 (dk_at dksX4_isAncestorOf_1 8 rfl rfl)
def dkwX4_branchBelow_0 : List UInt8 := [42, 77, 44, 180, 0, 24, 43, 165, 0, 11, 44, 180, 0, 24, 77, 167, 255, 243, 44, 176]
abbrev dktX4_branchBelow_0 : List UInt8 := dkwX4_branchBelow_0 ++ []
theorem dksX4_branchBelow_0 : cX4_branchBelow.data.toList.drop 0 = dktX4_branchBelow_0 := by decide +kernel
theorem dX4_branchBelow_0 : decode cX4_branchBelow 0 = .ok (.aload_n 0, 1) := dk_42 (dk_at dksX4_branchBelow_0 0 rfl rfl)
theorem dX4_branchBelow_1 : decode cX4_branchBelow 1 = .ok (.astore_n 2, 1) := dk_77 (dk_at dksX4_branchBelow_0 1 rfl rfl)
theorem dX4_branchBelow_2 : decode cX4_branchBelow 2 = .ok (.aload_n 2, 1) := dk_44 (dk_at dksX4_branchBelow_0 2 rfl rfl)
theorem dX4_branchBelow_3 : decode cX4_branchBelow 3 = .ok (.getfield 24, 3) := dk_180 0 24 (dk_at dksX4_branchBelow_0 3 rfl rfl)
theorem dX4_branchBelow_6 : decode cX4_branchBelow 6 = .ok (.aload_n 1, 1) := dk_43 (dk_at dksX4_branchBelow_0 6 rfl rfl)
theorem dX4_branchBelow_7 : decode cX4_branchBelow 7 = .ok (.if_acmp .eq 11, 3) := dk_165 0 11 (dk_at dksX4_branchBelow_0 7 rfl rfl)
theorem dX4_branchBelow_10 : decode cX4_branchBelow 10 = .ok (.aload_n 2, 1) := dk_44 (dk_at dksX4_branchBelow_0 10 rfl rfl)
theorem dX4_branchBelow_11 : decode cX4_branchBelow 11 = .ok (.getfield 24, 3) := dk_180 0 24 (dk_at dksX4_branchBelow_0 11 rfl rfl)
theorem dX4_branchBelow_14 : decode cX4_branchBelow 14 = .ok (.astore_n 2, 1) := dk_77 (dk_at dksX4_branchBelow_0 14 rfl rfl)
theorem dX4_branchBelow_15 : decode cX4_branchBelow 15 = .ok (.goto (-13), 3) := dk_167 255 243 (dk_at dksX4_branchBelow_0 15 rfl rfl)
theorem dX4_branchBelow_18 : decode cX4_branchBelow 18 = .ok (.aload_n 2, 1) := dk_44 (dk_at dksX4_branchBelow_0 18 rfl rfl)
theorem dX4_branchBelow_19 : decode cX4_branchBelow 19 = .ok (.areturn, 1) := dk_176 (dk_at dksX4_branchBelow_0 19 rfl rfl)
def dkwX4_founder_0 : List UInt8 := [42, 76, 43, 180, 0, 24, 198, 0, 11, 43, 180, 0, 24, 76, 167, 255, 244, 43, 176]
abbrev dktX4_founder_0 : List UInt8 := dkwX4_founder_0 ++ []
theorem dksX4_founder_0 : cX4_founder.data.toList.drop 0 = dktX4_founder_0 := by decide +kernel
theorem dX4_founder_0 : decode cX4_founder 0 = .ok (.aload_n 0, 1) := dk_42 (dk_at dksX4_founder_0 0 rfl rfl)
theorem dX4_founder_1 : decode cX4_founder 1 = .ok (.astore_n 1, 1) := dk_76 (dk_at dksX4_founder_0 1 rfl rfl)
theorem dX4_founder_2 : decode cX4_founder 2 = .ok (.aload_n 1, 1) := dk_43 (dk_at dksX4_founder_0 2 rfl rfl)
theorem dX4_founder_3 : decode cX4_founder 3 = .ok (.getfield 24, 3) := dk_180 0 24 (dk_at dksX4_founder_0 3 rfl rfl)
theorem dX4_founder_6 : decode cX4_founder 6 = .ok (.ifnull 11, 3) := dk_198 0 11 (dk_at dksX4_founder_0 6 rfl rfl)
theorem dX4_founder_9 : decode cX4_founder 9 = .ok (.aload_n 1, 1) := dk_43 (dk_at dksX4_founder_0 9 rfl rfl)
theorem dX4_founder_10 : decode cX4_founder 10 = .ok (.getfield 24, 3) := dk_180 0 24 (dk_at dksX4_founder_0 10 rfl rfl)
theorem dX4_founder_13 : decode cX4_founder 13 = .ok (.astore_n 1, 1) := dk_76 (dk_at dksX4_founder_0 13 rfl rfl)
theorem dX4_founder_14 : decode cX4_founder 14 = .ok (.goto (-12), 3) := dk_167 255 244 (dk_at dksX4_founder_0 14 rfl rfl)
theorem dX4_founder_17 : decode cX4_founder 17 = .ok (.aload_n 1, 1) := dk_43 (dk_at dksX4_founder_0 17 rfl rfl)
theorem dX4_founder_18 : decode cX4_founder 18 = .ok (.areturn, 1) := dk_176 (dk_at dksX4_founder_0 18 rfl rfl)
def dkwX4_init_1 : List UInt8 := [181, 0, 20, 42, 44, 181, 0, 24, 177]
abbrev dktX4_init_1 : List UInt8 := dkwX4_init_1 ++ []
def dkwX4_init_0 : List UInt8 := [42, 183, 0, 1, 42, 187, 0, 7, 89, 183, 0, 9, 181, 0, 10, 42, 4, 181, 0, 16, 42, 27]
abbrev dktX4_init_0 : List UInt8 := dkwX4_init_0 ++ dktX4_init_1
theorem dksX4_init_0 : cX4_init.data.toList.drop 0 = dktX4_init_0 := by decide +kernel
theorem dksX4_init_1 : cX4_init.data.toList.drop 22 = dktX4_init_1 := dk_seg dksX4_init_0 22 rfl rfl
theorem dX4_init_0 : decode cX4_init 0 = .ok (.aload_n 0, 1) := dk_42 (dk_at dksX4_init_0 0 rfl rfl)
theorem dX4_init_1 : decode cX4_init 1 = .ok (.invokespecial 1, 3) := dk_183 0 1 (dk_at dksX4_init_0 1 rfl rfl)
theorem dX4_init_4 : decode cX4_init 4 = .ok (.aload_n 0, 1) := dk_42 (dk_at dksX4_init_0 4 rfl rfl)
theorem dX4_init_5 : decode cX4_init 5 = .ok (.new 7, 3) := dk_187 0 7 (dk_at dksX4_init_0 5 rfl rfl)
theorem dX4_init_8 : decode cX4_init 8 = .ok (.dup, 1) := dk_89 (dk_at dksX4_init_0 8 rfl rfl)
theorem dX4_init_9 : decode cX4_init 9 = .ok (.invokespecial 9, 3) := dk_183 0 9 (dk_at dksX4_init_0 9 rfl rfl)
theorem dX4_init_12 : decode cX4_init 12 = .ok (.putfield 10, 3) := dk_181 0 10 (dk_at dksX4_init_0 12 rfl rfl)
theorem dX4_init_15 : decode cX4_init 15 = .ok (.aload_n 0, 1) := dk_42 (dk_at dksX4_init_0 15 rfl rfl)
theorem dX4_init_16 : decode cX4_init 16 = .ok (.iconst 1, 1) := dk_4 (dk_at dksX4_init_0 16 rfl rfl)
theorem dX4_init_17 : decode cX4_init 17 = .ok (.putfield 16, 3) := dk_181 0 16 (dk_at dksX4_init_0 17 rfl rfl)
theorem dX4_init_20 : decode cX4_init 20 = .ok (.aload_n 0, 1) := dk_42 (dk_at dksX4_init_0 20 rfl rfl)
theorem dX4_init_21 : decode cX4_init 21 = .ok (.iload_n 1, 1) := dk_27 (dk_at dksX4_init_0 21 rfl rfl)
theorem dX4_init_22 : decode cX4_init 22 = .ok (.putfield 20, 3) := dk_181 0 20 (dk_at dksX4_init_1 0 rfl rfl)
theorem dX4_init_25 : decode cX4_init 25 = .ok (.aload_n 0, 1) := dk_42 (dk_at dksX4_init_1 3 rfl rfl)
theorem dX4_init_26 : decode cX4_init 26 = .ok (.aload_n 2, 1) := dk_44 (dk_at dksX4_init_1 4 rfl rfl)
theorem dX4_init_27 : decode cX4_init 27 = .ok (.putfield 24, 3) := dk_181 0 24 (dk_at dksX4_init_1 5 rfl rfl)
theorem dX4_init_30 : decode cX4_init 30 = .ok (.return_, 1) := dk_177 (dk_at dksX4_init_1 8 rfl rfl)
def dkwX5_isExtinct_0 : List UInt8 := [42, 180, 0, 20, 199, 0, 7, 4, 167, 0, 4, 3, 172]
abbrev dktX5_isExtinct_0 : List UInt8 := dkwX5_isExtinct_0 ++ []
theorem dksX5_isExtinct_0 : cX5_isExtinct.data.toList.drop 0 = dktX5_isExtinct_0 := by decide +kernel
theorem dX5_isExtinct_0 : decode cX5_isExtinct 0 = .ok (.aload_n 0, 1) := dk_42 (dk_at dksX5_isExtinct_0 0 rfl rfl)
theorem dX5_isExtinct_1 : decode cX5_isExtinct 1 = .ok (.getfield 20, 3) := dk_180 0 20 (dk_at dksX5_isExtinct_0 1 rfl rfl)
theorem dX5_isExtinct_4 : decode cX5_isExtinct 4 = .ok (.ifnonnull 7, 3) := dk_199 0 7 (dk_at dksX5_isExtinct_0 4 rfl rfl)
theorem dX5_isExtinct_7 : decode cX5_isExtinct 7 = .ok (.iconst 1, 1) := dk_4 (dk_at dksX5_isExtinct_0 7 rfl rfl)
theorem dX5_isExtinct_8 : decode cX5_isExtinct 8 = .ok (.goto 4, 3) := dk_167 0 4 (dk_at dksX5_isExtinct_0 8 rfl rfl)
theorem dX5_isExtinct_11 : decode cX5_isExtinct 11 = .ok (.iconst 0, 1) := dk_3 (dk_at dksX5_isExtinct_0 11 rfl rfl)
theorem dX5_isExtinct_12 : decode cX5_isExtinct 12 = .ok (.ireturn, 1) := dk_172 (dk_at dksX5_isExtinct_0 12 rfl rfl)
def dkwX5_init_0 : List UInt8 := [42, 183, 0, 1, 42, 27, 181, 0, 7, 42, 28, 181, 0, 13, 42, 29, 181, 0, 17, 177]
abbrev dktX5_init_0 : List UInt8 := dkwX5_init_0 ++ []
theorem dksX5_init_0 : cX5_init.data.toList.drop 0 = dktX5_init_0 := by decide +kernel
theorem dX5_init_0 : decode cX5_init 0 = .ok (.aload_n 0, 1) := dk_42 (dk_at dksX5_init_0 0 rfl rfl)
theorem dX5_init_1 : decode cX5_init 1 = .ok (.invokespecial 1, 3) := dk_183 0 1 (dk_at dksX5_init_0 1 rfl rfl)
theorem dX5_init_4 : decode cX5_init 4 = .ok (.aload_n 0, 1) := dk_42 (dk_at dksX5_init_0 4 rfl rfl)
theorem dX5_init_5 : decode cX5_init 5 = .ok (.iload_n 1, 1) := dk_27 (dk_at dksX5_init_0 5 rfl rfl)
theorem dX5_init_6 : decode cX5_init 6 = .ok (.putfield 7, 3) := dk_181 0 7 (dk_at dksX5_init_0 6 rfl rfl)
theorem dX5_init_9 : decode cX5_init 9 = .ok (.aload_n 0, 1) := dk_42 (dk_at dksX5_init_0 9 rfl rfl)
theorem dX5_init_10 : decode cX5_init 10 = .ok (.iload_n 2, 1) := dk_28 (dk_at dksX5_init_0 10 rfl rfl)
theorem dX5_init_11 : decode cX5_init 11 = .ok (.putfield 13, 3) := dk_181 0 13 (dk_at dksX5_init_0 11 rfl rfl)
theorem dX5_init_14 : decode cX5_init 14 = .ok (.aload_n 0, 1) := dk_42 (dk_at dksX5_init_0 14 rfl rfl)
theorem dX5_init_15 : decode cX5_init 15 = .ok (.iload_n 3, 1) := dk_29 (dk_at dksX5_init_0 15 rfl rfl)
theorem dX5_init_16 : decode cX5_init 16 = .ok (.putfield 17, 3) := dk_181 0 17 (dk_at dksX5_init_0 16 rfl rfl)
theorem dX5_init_19 : decode cX5_init 19 = .ok (.return_, 1) := dk_177 (dk_at dksX5_init_0 19 rfl rfl)
def dkwX5_end_0 : List UInt8 := [42, 1, 181, 0, 20, 42, 3, 181, 0, 17, 42, 3, 181, 0, 24, 42, 3, 181, 0, 28, 177]
abbrev dktX5_end_0 : List UInt8 := dkwX5_end_0 ++ []
theorem dksX5_end_0 : cX5_end.data.toList.drop 0 = dktX5_end_0 := by decide +kernel
theorem dX5_end_0 : decode cX5_end 0 = .ok (.aload_n 0, 1) := dk_42 (dk_at dksX5_end_0 0 rfl rfl)
theorem dX5_end_1 : decode cX5_end 1 = .ok (.aconst_null, 1) := dk_1 (dk_at dksX5_end_0 1 rfl rfl)
theorem dX5_end_2 : decode cX5_end 2 = .ok (.putfield 20, 3) := dk_181 0 20 (dk_at dksX5_end_0 2 rfl rfl)
theorem dX5_end_5 : decode cX5_end 5 = .ok (.aload_n 0, 1) := dk_42 (dk_at dksX5_end_0 5 rfl rfl)
theorem dX5_end_6 : decode cX5_end 6 = .ok (.iconst 0, 1) := dk_3 (dk_at dksX5_end_0 6 rfl rfl)
theorem dX5_end_7 : decode cX5_end 7 = .ok (.putfield 17, 3) := dk_181 0 17 (dk_at dksX5_end_0 7 rfl rfl)
theorem dX5_end_10 : decode cX5_end 10 = .ok (.aload_n 0, 1) := dk_42 (dk_at dksX5_end_0 10 rfl rfl)
theorem dX5_end_11 : decode cX5_end 11 = .ok (.iconst 0, 1) := dk_3 (dk_at dksX5_end_0 11 rfl rfl)
theorem dX5_end_12 : decode cX5_end 12 = .ok (.putfield 24, 3) := dk_181 0 24 (dk_at dksX5_end_0 12 rfl rfl)
theorem dX5_end_15 : decode cX5_end 15 = .ok (.aload_n 0, 1) := dk_42 (dk_at dksX5_end_0 15 rfl rfl)
theorem dX5_end_16 : decode cX5_end 16 = .ok (.iconst 0, 1) := dk_3 (dk_at dksX5_end_0 16 rfl rfl)
theorem dX5_end_17 : decode cX5_end 17 = .ok (.putfield 28, 3) := dk_181 0 28 (dk_at dksX5_end_0 17 rfl rfl)
theorem dX5_end_20 : decode cX5_end 20 = .ok (.return_, 1) := dk_177 (dk_at dksX5_end_0 20 rfl rfl)
def dkwX5_isBefore_1 : List UInt8 := [180, 0, 7, 43, 180, 0, 7, 162, 0, 7, 4, 167, 0, 4, 3, 172]
abbrev dktX5_isBefore_1 : List UInt8 := dkwX5_isBefore_1 ++ []
def dkwX5_isBefore_0 : List UInt8 := [42, 180, 0, 17, 43, 180, 0, 17, 163, 0, 25, 42, 180, 0, 17, 43, 180, 0, 17, 160, 0, 18, 42]
abbrev dktX5_isBefore_0 : List UInt8 := dkwX5_isBefore_0 ++ dktX5_isBefore_1
theorem dksX5_isBefore_0 : cX5_isBefore.data.toList.drop 0 = dktX5_isBefore_0 := by decide +kernel
theorem dksX5_isBefore_1 : cX5_isBefore.data.toList.drop 23 = dktX5_isBefore_1 := dk_seg dksX5_isBefore_0 23 rfl rfl
theorem dX5_isBefore_0 : decode cX5_isBefore 0 = .ok (.aload_n 0, 1) := dk_42 (dk_at dksX5_isBefore_0 0 rfl rfl)
theorem dX5_isBefore_1 : decode cX5_isBefore 1 = .ok (.getfield 17, 3) := dk_180 0 17 (dk_at dksX5_isBefore_0 1 rfl rfl)
theorem dX5_isBefore_4 : decode cX5_isBefore 4 = .ok (.aload_n 1, 1) := dk_43 (dk_at dksX5_isBefore_0 4 rfl rfl)
theorem dX5_isBefore_5 : decode cX5_isBefore 5 = .ok (.getfield 17, 3) := dk_180 0 17 (dk_at dksX5_isBefore_0 5 rfl rfl)
theorem dX5_isBefore_8 : decode cX5_isBefore 8 = .ok (.if_icmp .gt 25, 3) := dk_163 0 25 (dk_at dksX5_isBefore_0 8 rfl rfl)
theorem dX5_isBefore_11 : decode cX5_isBefore 11 = .ok (.aload_n 0, 1) := dk_42 (dk_at dksX5_isBefore_0 11 rfl rfl)
theorem dX5_isBefore_12 : decode cX5_isBefore 12 = .ok (.getfield 17, 3) := dk_180 0 17 (dk_at dksX5_isBefore_0 12 rfl rfl)
theorem dX5_isBefore_15 : decode cX5_isBefore 15 = .ok (.aload_n 1, 1) := dk_43 (dk_at dksX5_isBefore_0 15 rfl rfl)
theorem dX5_isBefore_16 : decode cX5_isBefore 16 = .ok (.getfield 17, 3) := dk_180 0 17 (dk_at dksX5_isBefore_0 16 rfl rfl)
theorem dX5_isBefore_19 : decode cX5_isBefore 19 = .ok (.if_icmp .ne 18, 3) := dk_160 0 18 (dk_at dksX5_isBefore_0 19 rfl rfl)
theorem dX5_isBefore_22 : decode cX5_isBefore 22 = .ok (.aload_n 0, 1) := dk_42 (dk_at dksX5_isBefore_0 22 rfl rfl)
theorem dX5_isBefore_23 : decode cX5_isBefore 23 = .ok (.getfield 7, 3) := dk_180 0 7 (dk_at dksX5_isBefore_1 0 rfl rfl)
theorem dX5_isBefore_26 : decode cX5_isBefore 26 = .ok (.aload_n 1, 1) := dk_43 (dk_at dksX5_isBefore_1 3 rfl rfl)
theorem dX5_isBefore_27 : decode cX5_isBefore 27 = .ok (.getfield 7, 3) := dk_180 0 7 (dk_at dksX5_isBefore_1 4 rfl rfl)
theorem dX5_isBefore_30 : decode cX5_isBefore 30 = .ok (.if_icmp .ge 7, 3) := dk_162 0 7 (dk_at dksX5_isBefore_1 7 rfl rfl)
theorem dX5_isBefore_33 : decode cX5_isBefore 33 = .ok (.iconst 1, 1) := dk_4 (dk_at dksX5_isBefore_1 10 rfl rfl)
theorem dX5_isBefore_34 : decode cX5_isBefore 34 = .ok (.goto 4, 3) := dk_167 0 4 (dk_at dksX5_isBefore_1 11 rfl rfl)
theorem dX5_isBefore_37 : decode cX5_isBefore 37 = .ok (.iconst 0, 1) := dk_3 (dk_at dksX5_isBefore_1 14 rfl rfl)
theorem dX5_isBefore_38 : decode cX5_isBefore 38 = .ok (.ireturn, 1) := dk_172 (dk_at dksX5_isBefore_1 15 rfl rfl)
def dkwX6_init_1 : List UInt8 := [181, 0, 20, 177]
abbrev dktX6_init_1 : List UInt8 := dkwX6_init_1 ++ []
def dkwX6_init_0 : List UInt8 := [42, 183, 0, 1, 42, 27, 181, 0, 7, 42, 28, 181, 0, 13, 42, 29, 181, 0, 17, 42, 21, 4]
abbrev dktX6_init_0 : List UInt8 := dkwX6_init_0 ++ dktX6_init_1
theorem dksX6_init_0 : cX6_init.data.toList.drop 0 = dktX6_init_0 := by decide +kernel
theorem dksX6_init_1 : cX6_init.data.toList.drop 22 = dktX6_init_1 := dk_seg dksX6_init_0 22 rfl rfl
theorem dX6_init_0 : decode cX6_init 0 = .ok (.aload_n 0, 1) := dk_42 (dk_at dksX6_init_0 0 rfl rfl)
theorem dX6_init_1 : decode cX6_init 1 = .ok (.invokespecial 1, 3) := dk_183 0 1 (dk_at dksX6_init_0 1 rfl rfl)
theorem dX6_init_4 : decode cX6_init 4 = .ok (.aload_n 0, 1) := dk_42 (dk_at dksX6_init_0 4 rfl rfl)
theorem dX6_init_5 : decode cX6_init 5 = .ok (.iload_n 1, 1) := dk_27 (dk_at dksX6_init_0 5 rfl rfl)
theorem dX6_init_6 : decode cX6_init 6 = .ok (.putfield 7, 3) := dk_181 0 7 (dk_at dksX6_init_0 6 rfl rfl)
theorem dX6_init_9 : decode cX6_init 9 = .ok (.aload_n 0, 1) := dk_42 (dk_at dksX6_init_0 9 rfl rfl)
theorem dX6_init_10 : decode cX6_init 10 = .ok (.iload_n 2, 1) := dk_28 (dk_at dksX6_init_0 10 rfl rfl)
theorem dX6_init_11 : decode cX6_init 11 = .ok (.putfield 13, 3) := dk_181 0 13 (dk_at dksX6_init_0 11 rfl rfl)
theorem dX6_init_14 : decode cX6_init 14 = .ok (.aload_n 0, 1) := dk_42 (dk_at dksX6_init_0 14 rfl rfl)
theorem dX6_init_15 : decode cX6_init 15 = .ok (.iload_n 3, 1) := dk_29 (dk_at dksX6_init_0 15 rfl rfl)
theorem dX6_init_16 : decode cX6_init 16 = .ok (.putfield 17, 3) := dk_181 0 17 (dk_at dksX6_init_0 16 rfl rfl)
theorem dX6_init_19 : decode cX6_init 19 = .ok (.aload_n 0, 1) := dk_42 (dk_at dksX6_init_0 19 rfl rfl)
theorem dX6_init_20 : decode cX6_init 20 = .ok (.iload 4, 2) := dk_21 4 (dk_at dksX6_init_0 20 rfl rfl)
theorem dX6_init_22 : decode cX6_init 22 = .ok (.putfield 20, 3) := dk_181 0 20 (dk_at dksX6_init_1 0 rfl rfl)
theorem dX6_init_25 : decode cX6_init 25 = .ok (.return_, 1) := dk_177 (dk_at dksX6_init_1 3 rfl rfl)
def dkwX6_run_7 : List UInt8 := [182, 0, 78, 172]
abbrev dktX6_run_7 : List UInt8 := dkwX6_run_7 ++ []
def dkwX6_run_6 : List UInt8 := [167, 0, 26, 43, 42, 180, 0, 13, 42, 180, 0, 17, 182, 0, 74, 167, 0, 11, 43, 42, 180, 0, 13]
abbrev dktX6_run_6 : List UInt8 := dkwX6_run_6 ++ dktX6_run_7
def dkwX6_run_5 : List UInt8 := [167, 0, 48, 43, 42, 180, 0, 13, 182, 0, 68, 167, 0, 37, 43, 42, 180, 0, 13, 182, 0, 71]
abbrev dktX6_run_5 : List UInt8 := dkwX6_run_5 ++ dktX6_run_6
def dkwX6_run_4 : List UInt8 := [167, 0, 70, 43, 42, 180, 0, 13, 182, 0, 62, 167, 0, 59, 43, 42, 180, 0, 13, 182, 0, 65]
abbrev dktX6_run_4 : List UInt8 := dkwX6_run_4 ++ dktX6_run_5
def dkwX6_run_3 : List UInt8 := [182, 0, 55, 167, 0, 89, 43, 42, 180, 0, 13, 42, 180, 0, 20, 42, 180, 0, 17, 182, 0, 58]
abbrev dktX6_run_3 : List UInt8 := dkwX6_run_3 ++ dktX6_run_4
def dkwX6_run_2 : List UInt8 := [43, 182, 0, 47, 167, 0, 111, 43, 42, 180, 0, 13, 182, 0, 51, 167, 0, 100, 43, 42, 180, 0, 13]
abbrev dktX6_run_2 : List UInt8 := dkwX6_run_2 ++ dktX6_run_3
def dkwX6_run_1 : List UInt8 := [170, 0, 0, 0, 0, 0, 0, 187, 0, 0, 0, 97, 0, 0, 0, 112, 0, 0, 0, 109, 0, 0, 0, 98, 0, 0, 0, 87, 0, 0, 0, 187, 0, 0, 0, 150, 0, 0, 0, 80, 0, 0, 0, 172, 0, 0, 0, 187, 0, 0, 0, 187, 0, 0, 0, 187, 0, 0, 0, 161, 0, 0, 0, 187, 0, 0, 0, 187, 0, 0, 0, 139, 0, 0, 0, 187, 0, 0, 0, 128]
abbrev dktX6_run_1 : List UInt8 := dkwX6_run_1 ++ dktX6_run_2
def dkwX6_run_0 : List UInt8 := [42, 43, 182, 0, 40, 154, 0, 11, 187, 0, 44, 89, 183, 0, 46, 191, 42, 180, 0, 7]
abbrev dktX6_run_0 : List UInt8 := dkwX6_run_0 ++ dktX6_run_1
theorem dksX6_run_0 : cX6_run.data.toList.drop 0 = dktX6_run_0 := by decide +kernel
theorem dksX6_run_1 : cX6_run.data.toList.drop 20 = dktX6_run_1 := dk_seg dksX6_run_0 20 rfl rfl
theorem dksX6_run_2 : cX6_run.data.toList.drop 100 = dktX6_run_2 := dk_seg dksX6_run_1 80 rfl rfl
theorem dksX6_run_3 : cX6_run.data.toList.drop 123 = dktX6_run_3 := dk_seg dksX6_run_2 23 rfl rfl
theorem dksX6_run_4 : cX6_run.data.toList.drop 145 = dktX6_run_4 := dk_seg dksX6_run_3 22 rfl rfl
theorem dksX6_run_5 : cX6_run.data.toList.drop 167 = dktX6_run_5 := dk_seg dksX6_run_4 22 rfl rfl
theorem dksX6_run_6 : cX6_run.data.toList.drop 189 = dktX6_run_6 := dk_seg dksX6_run_5 22 rfl rfl
theorem dksX6_run_7 : cX6_run.data.toList.drop 212 = dktX6_run_7 := dk_seg dksX6_run_6 23 rfl rfl
theorem dX6_run_0 : decode cX6_run 0 = .ok (.aload_n 0, 1) := dk_42 (dk_at dksX6_run_0 0 rfl rfl)
theorem dX6_run_1 : decode cX6_run 1 = .ok (.aload_n 1, 1) := dk_43 (dk_at dksX6_run_0 1 rfl rfl)
theorem dX6_run_2 : decode cX6_run 2 = .ok (.invokevirtual 40, 3) := dk_182 0 40 (dk_at dksX6_run_0 2 rfl rfl)
theorem dX6_run_5 : decode cX6_run 5 = .ok (.ifCond .ne 11, 3) := dk_154 0 11 (dk_at dksX6_run_0 5 rfl rfl)
theorem dX6_run_8 : decode cX6_run 8 = .ok (.new 44, 3) := dk_187 0 44 (dk_at dksX6_run_0 8 rfl rfl)
theorem dX6_run_11 : decode cX6_run 11 = .ok (.dup, 1) := dk_89 (dk_at dksX6_run_0 11 rfl rfl)
theorem dX6_run_12 : decode cX6_run 12 = .ok (.invokespecial 46, 3) := dk_183 0 46 (dk_at dksX6_run_0 12 rfl rfl)
theorem dX6_run_15 : decode cX6_run 15 = .ok (.athrow, 1) := dk_191 (dk_at dksX6_run_0 15 rfl rfl)
theorem dX6_run_16 : decode cX6_run 16 = .ok (.aload_n 0, 1) := dk_42 (dk_at dksX6_run_0 16 rfl rfl)
theorem dX6_run_17 : decode cX6_run 17 = .ok (.getfield 7, 3) := dk_180 0 7 (dk_at dksX6_run_0 17 rfl rfl)
theorem dX6_run_20 : decode cX6_run 20 = .ok (.tableswitch 187 97 112 #[109, 98, 87, 187, 150, 80, 172, 187, 187, 187, 161, 187, 187, 139, 187, 128], 80) := by decide +kernel
theorem dX6_run_100 : decode cX6_run 100 = .ok (.aload_n 1, 1) := dk_43 (dk_at dksX6_run_2 0 rfl rfl)
theorem dX6_run_101 : decode cX6_run 101 = .ok (.invokevirtual 47, 3) := dk_182 0 47 (dk_at dksX6_run_2 1 rfl rfl)
theorem dX6_run_104 : decode cX6_run 104 = .ok (.goto 111, 3) := dk_167 0 111 (dk_at dksX6_run_2 4 rfl rfl)
theorem dX6_run_107 : decode cX6_run 107 = .ok (.aload_n 1, 1) := dk_43 (dk_at dksX6_run_2 7 rfl rfl)
theorem dX6_run_108 : decode cX6_run 108 = .ok (.aload_n 0, 1) := dk_42 (dk_at dksX6_run_2 8 rfl rfl)
theorem dX6_run_109 : decode cX6_run 109 = .ok (.getfield 13, 3) := dk_180 0 13 (dk_at dksX6_run_2 9 rfl rfl)
theorem dX6_run_112 : decode cX6_run 112 = .ok (.invokevirtual 51, 3) := dk_182 0 51 (dk_at dksX6_run_2 12 rfl rfl)
theorem dX6_run_115 : decode cX6_run 115 = .ok (.goto 100, 3) := dk_167 0 100 (dk_at dksX6_run_2 15 rfl rfl)
theorem dX6_run_118 : decode cX6_run 118 = .ok (.aload_n 1, 1) := dk_43 (dk_at dksX6_run_2 18 rfl rfl)
theorem dX6_run_119 : decode cX6_run 119 = .ok (.aload_n 0, 1) := dk_42 (dk_at dksX6_run_2 19 rfl rfl)
theorem dX6_run_120 : decode cX6_run 120 = .ok (.getfield 13, 3) := dk_180 0 13 (dk_at dksX6_run_2 20 rfl rfl)
theorem dX6_run_123 : decode cX6_run 123 = .ok (.invokevirtual 55, 3) := dk_182 0 55 (dk_at dksX6_run_3 0 rfl rfl)
theorem dX6_run_126 : decode cX6_run 126 = .ok (.goto 89, 3) := dk_167 0 89 (dk_at dksX6_run_3 3 rfl rfl)
theorem dX6_run_129 : decode cX6_run 129 = .ok (.aload_n 1, 1) := dk_43 (dk_at dksX6_run_3 6 rfl rfl)
theorem dX6_run_130 : decode cX6_run 130 = .ok (.aload_n 0, 1) := dk_42 (dk_at dksX6_run_3 7 rfl rfl)
theorem dX6_run_131 : decode cX6_run 131 = .ok (.getfield 13, 3) := dk_180 0 13 (dk_at dksX6_run_3 8 rfl rfl)
theorem dX6_run_134 : decode cX6_run 134 = .ok (.aload_n 0, 1) := dk_42 (dk_at dksX6_run_3 11 rfl rfl)
theorem dX6_run_135 : decode cX6_run 135 = .ok (.getfield 20, 3) := dk_180 0 20 (dk_at dksX6_run_3 12 rfl rfl)
theorem dX6_run_138 : decode cX6_run 138 = .ok (.aload_n 0, 1) := dk_42 (dk_at dksX6_run_3 15 rfl rfl)
theorem dX6_run_139 : decode cX6_run 139 = .ok (.getfield 17, 3) := dk_180 0 17 (dk_at dksX6_run_3 16 rfl rfl)
theorem dX6_run_142 : decode cX6_run 142 = .ok (.invokevirtual 58, 3) := dk_182 0 58 (dk_at dksX6_run_3 19 rfl rfl)
theorem dX6_run_145 : decode cX6_run 145 = .ok (.goto 70, 3) := dk_167 0 70 (dk_at dksX6_run_4 0 rfl rfl)
theorem dX6_run_148 : decode cX6_run 148 = .ok (.aload_n 1, 1) := dk_43 (dk_at dksX6_run_4 3 rfl rfl)
theorem dX6_run_149 : decode cX6_run 149 = .ok (.aload_n 0, 1) := dk_42 (dk_at dksX6_run_4 4 rfl rfl)
theorem dX6_run_150 : decode cX6_run 150 = .ok (.getfield 13, 3) := dk_180 0 13 (dk_at dksX6_run_4 5 rfl rfl)
theorem dX6_run_153 : decode cX6_run 153 = .ok (.invokevirtual 62, 3) := dk_182 0 62 (dk_at dksX6_run_4 8 rfl rfl)
theorem dX6_run_156 : decode cX6_run 156 = .ok (.goto 59, 3) := dk_167 0 59 (dk_at dksX6_run_4 11 rfl rfl)
theorem dX6_run_159 : decode cX6_run 159 = .ok (.aload_n 1, 1) := dk_43 (dk_at dksX6_run_4 14 rfl rfl)
theorem dX6_run_160 : decode cX6_run 160 = .ok (.aload_n 0, 1) := dk_42 (dk_at dksX6_run_4 15 rfl rfl)
theorem dX6_run_161 : decode cX6_run 161 = .ok (.getfield 13, 3) := dk_180 0 13 (dk_at dksX6_run_4 16 rfl rfl)
theorem dX6_run_164 : decode cX6_run 164 = .ok (.invokevirtual 65, 3) := dk_182 0 65 (dk_at dksX6_run_4 19 rfl rfl)
theorem dX6_run_167 : decode cX6_run 167 = .ok (.goto 48, 3) := dk_167 0 48 (dk_at dksX6_run_5 0 rfl rfl)
theorem dX6_run_170 : decode cX6_run 170 = .ok (.aload_n 1, 1) := dk_43 (dk_at dksX6_run_5 3 rfl rfl)
theorem dX6_run_171 : decode cX6_run 171 = .ok (.aload_n 0, 1) := dk_42 (dk_at dksX6_run_5 4 rfl rfl)
theorem dX6_run_172 : decode cX6_run 172 = .ok (.getfield 13, 3) := dk_180 0 13 (dk_at dksX6_run_5 5 rfl rfl)
theorem dX6_run_175 : decode cX6_run 175 = .ok (.invokevirtual 68, 3) := dk_182 0 68 (dk_at dksX6_run_5 8 rfl rfl)
theorem dX6_run_178 : decode cX6_run 178 = .ok (.goto 37, 3) := dk_167 0 37 (dk_at dksX6_run_5 11 rfl rfl)
theorem dX6_run_181 : decode cX6_run 181 = .ok (.aload_n 1, 1) := dk_43 (dk_at dksX6_run_5 14 rfl rfl)
theorem dX6_run_182 : decode cX6_run 182 = .ok (.aload_n 0, 1) := dk_42 (dk_at dksX6_run_5 15 rfl rfl)
theorem dX6_run_183 : decode cX6_run 183 = .ok (.getfield 13, 3) := dk_180 0 13 (dk_at dksX6_run_5 16 rfl rfl)
theorem dX6_run_186 : decode cX6_run 186 = .ok (.invokevirtual 71, 3) := dk_182 0 71 (dk_at dksX6_run_5 19 rfl rfl)
theorem dX6_run_189 : decode cX6_run 189 = .ok (.goto 26, 3) := dk_167 0 26 (dk_at dksX6_run_6 0 rfl rfl)
theorem dX6_run_192 : decode cX6_run 192 = .ok (.aload_n 1, 1) := dk_43 (dk_at dksX6_run_6 3 rfl rfl)
theorem dX6_run_193 : decode cX6_run 193 = .ok (.aload_n 0, 1) := dk_42 (dk_at dksX6_run_6 4 rfl rfl)
theorem dX6_run_194 : decode cX6_run 194 = .ok (.getfield 13, 3) := dk_180 0 13 (dk_at dksX6_run_6 5 rfl rfl)
theorem dX6_run_197 : decode cX6_run 197 = .ok (.aload_n 0, 1) := dk_42 (dk_at dksX6_run_6 8 rfl rfl)
theorem dX6_run_198 : decode cX6_run 198 = .ok (.getfield 17, 3) := dk_180 0 17 (dk_at dksX6_run_6 9 rfl rfl)
theorem dX6_run_201 : decode cX6_run 201 = .ok (.invokevirtual 74, 3) := dk_182 0 74 (dk_at dksX6_run_6 12 rfl rfl)
theorem dX6_run_204 : decode cX6_run 204 = .ok (.goto 11, 3) := dk_167 0 11 (dk_at dksX6_run_6 15 rfl rfl)
theorem dX6_run_207 : decode cX6_run 207 = .ok (.aload_n 1, 1) := dk_43 (dk_at dksX6_run_6 18 rfl rfl)
theorem dX6_run_208 : decode cX6_run 208 = .ok (.aload_n 0, 1) := dk_42 (dk_at dksX6_run_6 19 rfl rfl)
theorem dX6_run_209 : decode cX6_run 209 = .ok (.getfield 13, 3) := dk_180 0 13 (dk_at dksX6_run_6 20 rfl rfl)
theorem dX6_run_212 : decode cX6_run 212 = .ok (.invokevirtual 78, 3) := dk_182 0 78 (dk_at dksX6_run_7 0 rfl rfl)
theorem dX6_run_215 : decode cX6_run 215 = .ok (.ireturn, 1) := dk_172 (dk_at dksX6_run_7 3 rfl rfl)
def dkwX6_isAccepted_6 : List UInt8 := [4, 172]
abbrev dktX6_isAccepted_6 : List UInt8 := dkwX6_isAccepted_6 ++ []
def dkwX6_isAccepted_5 : List UInt8 := [167, 0, 25, 43, 42, 180, 0, 13, 182, 0, 34, 167, 0, 14, 42, 180, 0, 13, 184, 0, 37, 167, 0, 4]
abbrev dktX6_isAccepted_5 : List UInt8 := dkwX6_isAccepted_5 ++ dktX6_isAccepted_6
def dkwX6_isAccepted_4 : List UInt8 := [182, 0, 34, 153, 0, 18, 43, 42, 180, 0, 17, 182, 0, 23, 153, 0, 7, 4, 167, 0, 29, 3]
abbrev dktX6_isAccepted_4 : List UInt8 := dkwX6_isAccepted_4 ++ dktX6_isAccepted_5
def dkwX6_isAccepted_3 : List UInt8 := [180, 0, 17, 184, 0, 29, 153, 0, 7, 4, 167, 0, 59, 3, 167, 0, 55, 43, 42, 180, 0, 13]
abbrev dktX6_isAccepted_3 : List UInt8 := dkwX6_isAccepted_3 ++ dktX6_isAccepted_4
def dkwX6_isAccepted_2 : List UInt8 := [43, 42, 180, 0, 13, 182, 0, 23, 167, 0, 84, 43, 42, 180, 0, 13, 182, 0, 23, 153, 0, 17, 42]
abbrev dktX6_isAccepted_2 : List UInt8 := dkwX6_isAccepted_2 ++ dktX6_isAccepted_3
def dkwX6_isAccepted_1 : List UInt8 := [170, 0, 0, 0, 0, 0, 0, 207, 0, 0, 0, 97, 0, 0, 0, 121, 0, 0, 0, 127, 0, 0, 0, 116, 0, 0, 0, 116, 0, 0, 0, 207, 0, 0, 0, 186, 0, 0, 0, 207, 0, 0, 0, 156, 0, 0, 0, 207, 0, 0, 0, 207, 0, 0, 0, 207, 0, 0, 0, 186, 0, 0, 0, 207, 0, 0, 0, 207, 0, 0, 0, 186, 0, 0, 0, 207, 0, 0, 0, 186, 0, 0, 0, 207, 0, 0, 0, 207, 0, 0, 0, 207, 0, 0, 0, 207, 0, 0, 0, 207, 0, 0, 0, 207, 0, 0, 0, 207, 0, 0, 0, 207, 0, 0, 0, 197]
abbrev dktX6_isAccepted_1 : List UInt8 := dkwX6_isAccepted_1 ++ dktX6_isAccepted_2
def dkwX6_isAccepted_0 : List UInt8 := [42, 180, 0, 7]
abbrev dktX6_isAccepted_0 : List UInt8 := dkwX6_isAccepted_0 ++ dktX6_isAccepted_1
theorem dksX6_isAccepted_0 : cX6_isAccepted.data.toList.drop 0 = dktX6_isAccepted_0 := by decide +kernel
theorem dksX6_isAccepted_1 : cX6_isAccepted.data.toList.drop 4 = dktX6_isAccepted_1 := dk_seg dksX6_isAccepted_0 4 rfl rfl
theorem dksX6_isAccepted_2 : cX6_isAccepted.data.toList.drop 120 = dktX6_isAccepted_2 := dk_seg dksX6_isAccepted_1 116 rfl rfl
theorem dksX6_isAccepted_3 : cX6_isAccepted.data.toList.drop 143 = dktX6_isAccepted_3 := dk_seg dksX6_isAccepted_2 23 rfl rfl
theorem dksX6_isAccepted_4 : cX6_isAccepted.data.toList.drop 165 = dktX6_isAccepted_4 := dk_seg dksX6_isAccepted_3 22 rfl rfl
theorem dksX6_isAccepted_5 : cX6_isAccepted.data.toList.drop 187 = dktX6_isAccepted_5 := dk_seg dksX6_isAccepted_4 22 rfl rfl
theorem dksX6_isAccepted_6 : cX6_isAccepted.data.toList.drop 211 = dktX6_isAccepted_6 := dk_seg dksX6_isAccepted_5 24 rfl rfl
theorem dX6_isAccepted_0 : decode cX6_isAccepted 0 = .ok (.aload_n 0, 1) := dk_42 (dk_at dksX6_isAccepted_0 0 rfl rfl)
theorem dX6_isAccepted_1 : decode cX6_isAccepted 1 = .ok (.getfield 7, 3) := dk_180 0 7 (dk_at dksX6_isAccepted_0 1 rfl rfl)
theorem dX6_isAccepted_4 : decode cX6_isAccepted 4 = .ok (.tableswitch 207 97 121 #[127, 116, 116, 207, 186, 207, 156, 207, 207, 207, 186, 207, 207, 186, 207, 186, 207, 207, 207, 207, 207, 207, 207, 207, 197], 116) := by decide +kernel
theorem dX6_isAccepted_120 : decode cX6_isAccepted 120 = .ok (.aload_n 1, 1) := dk_43 (dk_at dksX6_isAccepted_2 0 rfl rfl)
theorem dX6_isAccepted_121 : decode cX6_isAccepted 121 = .ok (.aload_n 0, 1) := dk_42 (dk_at dksX6_isAccepted_2 1 rfl rfl)
theorem dX6_isAccepted_122 : decode cX6_isAccepted 122 = .ok (.getfield 13, 3) := dk_180 0 13 (dk_at dksX6_isAccepted_2 2 rfl rfl)
theorem dX6_isAccepted_125 : decode cX6_isAccepted 125 = .ok (.invokevirtual 23, 3) := dk_182 0 23 (dk_at dksX6_isAccepted_2 5 rfl rfl)
theorem dX6_isAccepted_128 : decode cX6_isAccepted 128 = .ok (.goto 84, 3) := dk_167 0 84 (dk_at dksX6_isAccepted_2 8 rfl rfl)
theorem dX6_isAccepted_131 : decode cX6_isAccepted 131 = .ok (.aload_n 1, 1) := dk_43 (dk_at dksX6_isAccepted_2 11 rfl rfl)
theorem dX6_isAccepted_132 : decode cX6_isAccepted 132 = .ok (.aload_n 0, 1) := dk_42 (dk_at dksX6_isAccepted_2 12 rfl rfl)
theorem dX6_isAccepted_133 : decode cX6_isAccepted 133 = .ok (.getfield 13, 3) := dk_180 0 13 (dk_at dksX6_isAccepted_2 13 rfl rfl)
theorem dX6_isAccepted_136 : decode cX6_isAccepted 136 = .ok (.invokevirtual 23, 3) := dk_182 0 23 (dk_at dksX6_isAccepted_2 16 rfl rfl)
theorem dX6_isAccepted_139 : decode cX6_isAccepted 139 = .ok (.ifCond .eq 17, 3) := dk_153 0 17 (dk_at dksX6_isAccepted_2 19 rfl rfl)
theorem dX6_isAccepted_142 : decode cX6_isAccepted 142 = .ok (.aload_n 0, 1) := dk_42 (dk_at dksX6_isAccepted_2 22 rfl rfl)
theorem dX6_isAccepted_143 : decode cX6_isAccepted 143 = .ok (.getfield 17, 3) := dk_180 0 17 (dk_at dksX6_isAccepted_3 0 rfl rfl)
theorem dX6_isAccepted_146 : decode cX6_isAccepted 146 = .ok (.invokestatic 29, 3) := dk_184 0 29 (dk_at dksX6_isAccepted_3 3 rfl rfl)
theorem dX6_isAccepted_149 : decode cX6_isAccepted 149 = .ok (.ifCond .eq 7, 3) := dk_153 0 7 (dk_at dksX6_isAccepted_3 6 rfl rfl)
theorem dX6_isAccepted_152 : decode cX6_isAccepted 152 = .ok (.iconst 1, 1) := dk_4 (dk_at dksX6_isAccepted_3 9 rfl rfl)
theorem dX6_isAccepted_153 : decode cX6_isAccepted 153 = .ok (.goto 59, 3) := dk_167 0 59 (dk_at dksX6_isAccepted_3 10 rfl rfl)
theorem dX6_isAccepted_156 : decode cX6_isAccepted 156 = .ok (.iconst 0, 1) := dk_3 (dk_at dksX6_isAccepted_3 13 rfl rfl)
theorem dX6_isAccepted_157 : decode cX6_isAccepted 157 = .ok (.goto 55, 3) := dk_167 0 55 (dk_at dksX6_isAccepted_3 14 rfl rfl)
theorem dX6_isAccepted_160 : decode cX6_isAccepted 160 = .ok (.aload_n 1, 1) := dk_43 (dk_at dksX6_isAccepted_3 17 rfl rfl)
theorem dX6_isAccepted_161 : decode cX6_isAccepted 161 = .ok (.aload_n 0, 1) := dk_42 (dk_at dksX6_isAccepted_3 18 rfl rfl)
theorem dX6_isAccepted_162 : decode cX6_isAccepted 162 = .ok (.getfield 13, 3) := dk_180 0 13 (dk_at dksX6_isAccepted_3 19 rfl rfl)
theorem dX6_isAccepted_165 : decode cX6_isAccepted 165 = .ok (.invokevirtual 34, 3) := dk_182 0 34 (dk_at dksX6_isAccepted_4 0 rfl rfl)
theorem dX6_isAccepted_168 : decode cX6_isAccepted 168 = .ok (.ifCond .eq 18, 3) := dk_153 0 18 (dk_at dksX6_isAccepted_4 3 rfl rfl)
theorem dX6_isAccepted_171 : decode cX6_isAccepted 171 = .ok (.aload_n 1, 1) := dk_43 (dk_at dksX6_isAccepted_4 6 rfl rfl)
theorem dX6_isAccepted_172 : decode cX6_isAccepted 172 = .ok (.aload_n 0, 1) := dk_42 (dk_at dksX6_isAccepted_4 7 rfl rfl)
theorem dX6_isAccepted_173 : decode cX6_isAccepted 173 = .ok (.getfield 17, 3) := dk_180 0 17 (dk_at dksX6_isAccepted_4 8 rfl rfl)
theorem dX6_isAccepted_176 : decode cX6_isAccepted 176 = .ok (.invokevirtual 23, 3) := dk_182 0 23 (dk_at dksX6_isAccepted_4 11 rfl rfl)
theorem dX6_isAccepted_179 : decode cX6_isAccepted 179 = .ok (.ifCond .eq 7, 3) := dk_153 0 7 (dk_at dksX6_isAccepted_4 14 rfl rfl)
theorem dX6_isAccepted_182 : decode cX6_isAccepted 182 = .ok (.iconst 1, 1) := dk_4 (dk_at dksX6_isAccepted_4 17 rfl rfl)
theorem dX6_isAccepted_183 : decode cX6_isAccepted 183 = .ok (.goto 29, 3) := dk_167 0 29 (dk_at dksX6_isAccepted_4 18 rfl rfl)
theorem dX6_isAccepted_186 : decode cX6_isAccepted 186 = .ok (.iconst 0, 1) := dk_3 (dk_at dksX6_isAccepted_4 21 rfl rfl)
theorem dX6_isAccepted_187 : decode cX6_isAccepted 187 = .ok (.goto 25, 3) := dk_167 0 25 (dk_at dksX6_isAccepted_5 0 rfl rfl)
theorem dX6_isAccepted_190 : decode cX6_isAccepted 190 = .ok (.aload_n 1, 1) := dk_43 (dk_at dksX6_isAccepted_5 3 rfl rfl)
theorem dX6_isAccepted_191 : decode cX6_isAccepted 191 = .ok (.aload_n 0, 1) := dk_42 (dk_at dksX6_isAccepted_5 4 rfl rfl)
theorem dX6_isAccepted_192 : decode cX6_isAccepted 192 = .ok (.getfield 13, 3) := dk_180 0 13 (dk_at dksX6_isAccepted_5 5 rfl rfl)
theorem dX6_isAccepted_195 : decode cX6_isAccepted 195 = .ok (.invokevirtual 34, 3) := dk_182 0 34 (dk_at dksX6_isAccepted_5 8 rfl rfl)
theorem dX6_isAccepted_198 : decode cX6_isAccepted 198 = .ok (.goto 14, 3) := dk_167 0 14 (dk_at dksX6_isAccepted_5 11 rfl rfl)
theorem dX6_isAccepted_201 : decode cX6_isAccepted 201 = .ok (.aload_n 0, 1) := dk_42 (dk_at dksX6_isAccepted_5 14 rfl rfl)
theorem dX6_isAccepted_202 : decode cX6_isAccepted 202 = .ok (.getfield 13, 3) := dk_180 0 13 (dk_at dksX6_isAccepted_5 15 rfl rfl)
theorem dX6_isAccepted_205 : decode cX6_isAccepted 205 = .ok (.invokestatic 37, 3) := dk_184 0 37 (dk_at dksX6_isAccepted_5 18 rfl rfl)
theorem dX6_isAccepted_208 : decode cX6_isAccepted 208 = .ok (.goto 4, 3) := dk_167 0 4 (dk_at dksX6_isAccepted_5 21 rfl rfl)
theorem dX6_isAccepted_211 : decode cX6_isAccepted 211 = .ok (.iconst 1, 1) := dk_4 (dk_at dksX6_isAccepted_6 0 rfl rfl)
theorem dX6_isAccepted_212 : decode cX6_isAccepted 212 = .ok (.ireturn, 1) := dk_172 (dk_at dksX6_isAccepted_6 1 rfl rfl)
def dkwX7_init_0 : List UInt8 := [42, 183, 0, 1, 42, 43, 181, 0, 7, 177]
abbrev dktX7_init_0 : List UInt8 := dkwX7_init_0 ++ []
theorem dksX7_init_0 : cX7_init.data.toList.drop 0 = dktX7_init_0 := by decide +kernel
theorem dX7_init_0 : decode cX7_init 0 = .ok (.aload_n 0, 1) := dk_42 (dk_at dksX7_init_0 0 rfl rfl)
theorem dX7_init_1 : decode cX7_init 1 = .ok (.invokespecial 1, 3) := dk_183 0 1 (dk_at dksX7_init_0 1 rfl rfl)
theorem dX7_init_4 : decode cX7_init 4 = .ok (.aload_n 0, 1) := dk_42 (dk_at dksX7_init_0 4 rfl rfl)
theorem dX7_init_5 : decode cX7_init 5 = .ok (.aload_n 1, 1) := dk_43 (dk_at dksX7_init_0 5 rfl rfl)
theorem dX7_init_6 : decode cX7_init 6 = .ok (.putfield 7, 3) := dk_181 0 7 (dk_at dksX7_init_0 6 rfl rfl)
theorem dX7_init_9 : decode cX7_init 9 = .ok (.return_, 1) := dk_177 (dk_at dksX7_init_0 9 rfl rfl)
def dkwX7_originReason_0 : List UInt8 := [42, 180, 0, 7, 199, 0, 7, 3, 167, 0, 10, 42, 180, 0, 7, 182, 0, 13, 172]
abbrev dktX7_originReason_0 : List UInt8 := dkwX7_originReason_0 ++ []
theorem dksX7_originReason_0 : cX7_originReason.data.toList.drop 0 = dktX7_originReason_0 := by decide +kernel
theorem dX7_originReason_0 : decode cX7_originReason 0 = .ok (.aload_n 0, 1) := dk_42 (dk_at dksX7_originReason_0 0 rfl rfl)
theorem dX7_originReason_1 : decode cX7_originReason 1 = .ok (.getfield 7, 3) := dk_180 0 7 (dk_at dksX7_originReason_0 1 rfl rfl)
theorem dX7_originReason_4 : decode cX7_originReason 4 = .ok (.ifnonnull 7, 3) := dk_199 0 7 (dk_at dksX7_originReason_0 4 rfl rfl)
theorem dX7_originReason_7 : decode cX7_originReason 7 = .ok (.iconst 0, 1) := dk_3 (dk_at dksX7_originReason_0 7 rfl rfl)
theorem dX7_originReason_8 : decode cX7_originReason 8 = .ok (.goto 10, 3) := dk_167 0 10 (dk_at dksX7_originReason_0 8 rfl rfl)
theorem dX7_originReason_11 : decode cX7_originReason 11 = .ok (.aload_n 0, 1) := dk_42 (dk_at dksX7_originReason_0 11 rfl rfl)
theorem dX7_originReason_12 : decode cX7_originReason 12 = .ok (.getfield 7, 3) := dk_180 0 7 (dk_at dksX7_originReason_0 12 rfl rfl)
theorem dX7_originReason_15 : decode cX7_originReason 15 = .ok (.invokevirtual 13, 3) := dk_182 0 13 (dk_at dksX7_originReason_0 15 rfl rfl)
theorem dX7_originReason_18 : decode cX7_originReason 18 = .ok (.ireturn, 1) := dk_172 (dk_at dksX7_originReason_0 18 rfl rfl)
def dkwX8_init_0 : List UInt8 := [42, 1, 183, 0, 1, 177]
abbrev dktX8_init_0 : List UInt8 := dkwX8_init_0 ++ []
theorem dksX8_init_0 : cX8_init.data.toList.drop 0 = dktX8_init_0 := by decide +kernel
theorem dX8_init_0 : decode cX8_init 0 = .ok (.aload_n 0, 1) := dk_42 (dk_at dksX8_init_0 0 rfl rfl)
theorem dX8_init_1 : decode cX8_init 1 = .ok (.aconst_null, 1) := dk_1 (dk_at dksX8_init_0 1 rfl rfl)
theorem dX8_init_2 : decode cX8_init 2 = .ok (.invokespecial 1, 3) := dk_183 0 1 (dk_at dksX8_init_0 2 rfl rfl)
theorem dX8_init_5 : decode cX8_init 5 = .ok (.return_, 1) := dk_177 (dk_at dksX8_init_0 5 rfl rfl)
theorem dX8_detail_0 : decode cX8_detail 0 = .ok (.iconst 0, 1) := by decide +kernel
theorem dX8_detail_1 : decode cX8_detail 1 = .ok (.ireturn, 1) := by decide +kernel
theorem dX8_reason_0 : decode cX8_reason 0 = .ok (.iconst 0, 1) := by decide +kernel
theorem dX8_reason_1 : decode cX8_reason 1 = .ok (.ireturn, 1) := by decide +kernel
def dkwX9_init_0 : List UInt8 := [42, 27, 28, 1, 183, 0, 1, 177]
abbrev dktX9_init_0 : List UInt8 := dkwX9_init_0 ++ []
theorem dksX9_init_0 : cX9_init.data.toList.drop 0 = dktX9_init_0 := by decide +kernel
theorem dX9_init_0 : decode cX9_init 0 = .ok (.aload_n 0, 1) := dk_42 (dk_at dksX9_init_0 0 rfl rfl)
theorem dX9_init_1 : decode cX9_init 1 = .ok (.iload_n 1, 1) := dk_27 (dk_at dksX9_init_0 1 rfl rfl)
theorem dX9_init_2 : decode cX9_init 2 = .ok (.iload_n 2, 1) := dk_28 (dk_at dksX9_init_0 2 rfl rfl)
theorem dX9_init_3 : decode cX9_init 3 = .ok (.aconst_null, 1) := dk_1 (dk_at dksX9_init_0 3 rfl rfl)
theorem dX9_init_4 : decode cX9_init 4 = .ok (.invokespecial 1, 3) := dk_183 0 1 (dk_at dksX9_init_0 4 rfl rfl)
theorem dX9_init_7 : decode cX9_init 7 = .ok (.return_, 1) := dk_177 (dk_at dksX9_init_0 7 rfl rfl)
def dkwX9_init_2_0 : List UInt8 := [42, 45, 183, 0, 7, 42, 27, 181, 0, 12, 42, 28, 181, 0, 16, 177]
abbrev dktX9_init_2_0 : List UInt8 := dkwX9_init_2_0 ++ []
theorem dksX9_init_2_0 : cX9_init_2.data.toList.drop 0 = dktX9_init_2_0 := by decide +kernel
theorem dX9_init_2_0 : decode cX9_init_2 0 = .ok (.aload_n 0, 1) := dk_42 (dk_at dksX9_init_2_0 0 rfl rfl)
theorem dX9_init_2_1 : decode cX9_init_2 1 = .ok (.aload_n 3, 1) := dk_45 (dk_at dksX9_init_2_0 1 rfl rfl)
theorem dX9_init_2_2 : decode cX9_init_2 2 = .ok (.invokespecial 7, 3) := dk_183 0 7 (dk_at dksX9_init_2_0 2 rfl rfl)
theorem dX9_init_2_5 : decode cX9_init_2 5 = .ok (.aload_n 0, 1) := dk_42 (dk_at dksX9_init_2_0 5 rfl rfl)
theorem dX9_init_2_6 : decode cX9_init_2 6 = .ok (.iload_n 1, 1) := dk_27 (dk_at dksX9_init_2_0 6 rfl rfl)
theorem dX9_init_2_7 : decode cX9_init_2 7 = .ok (.putfield 12, 3) := dk_181 0 12 (dk_at dksX9_init_2_0 7 rfl rfl)
theorem dX9_init_2_10 : decode cX9_init_2 10 = .ok (.aload_n 0, 1) := dk_42 (dk_at dksX9_init_2_0 10 rfl rfl)
theorem dX9_init_2_11 : decode cX9_init_2 11 = .ok (.iload_n 2, 1) := dk_28 (dk_at dksX9_init_2_0 11 rfl rfl)
theorem dX9_init_2_12 : decode cX9_init_2 12 = .ok (.putfield 16, 3) := dk_181 0 16 (dk_at dksX9_init_2_0 12 rfl rfl)
theorem dX9_init_2_15 : decode cX9_init_2 15 = .ok (.return_, 1) := dk_177 (dk_at dksX9_init_2_0 15 rfl rfl)
theorem dX9_detail_0 : decode cX9_detail 0 = .ok (.aload_n 0, 1) := by decide +kernel
theorem dX9_detail_1 : decode cX9_detail 1 = .ok (.getfield 16, 3) := by decide +kernel
theorem dX9_detail_4 : decode cX9_detail 4 = .ok (.ireturn, 1) := by decide +kernel
theorem dX9_reason_0 : decode cX9_reason 0 = .ok (.aload_n 0, 1) := by decide +kernel
theorem dX9_reason_1 : decode cX9_reason 1 = .ok (.getfield 12, 3) := by decide +kernel
theorem dX9_reason_4 : decode cX9_reason 4 = .ok (.ireturn, 1) := by decide +kernel
