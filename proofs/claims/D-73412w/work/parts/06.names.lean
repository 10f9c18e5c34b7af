set_option maxRecDepth 100000
abbrev cX8_isAskedToVote : ByteArray := prog_18_method_82_code
def yX8_isAskedToVote : MethodName := ⟨RX8, "isAskedToVote", "(I)V"⟩
def dkwX8_isAskedToVote_4 : List UInt8 := [182, 1, 39, 42, 4, 21, 4, 153, 0, 7, 4, 167, 0, 4, 3, 3, 3, 182, 1, 115, 177]
abbrev dktX8_isAskedToVote_4 : List UInt8 := dkwX8_isAskedToVote_4 ++ []
def dkwX8_isAskedToVote_3 : List UInt8 := [153, 0, 7, 4, 167, 0, 4, 3, 54, 4, 21, 4, 153, 0, 15, 42, 27, 5, 28, 182, 0, 133, 42, 27]
abbrev dktX8_isAskedToVote_3 : List UInt8 := dkwX8_isAskedToVote_3 ++ dktX8_isAskedToVote_4
def dkwX8_isAskedToVote_2 : List UInt8 := [29, 153, 0, 29, 42, 27, 42, 180, 0, 22, 16, 6, 46, 42, 180, 0, 22, 16, 7, 46, 182, 1, 112]
abbrev dktX8_isAskedToVote_2 : List UInt8 := dkwX8_isAskedToVote_2 ++ dktX8_isAskedToVote_3
def dkwX8_isAskedToVote_1 : List UInt8 := [160, 0, 7, 4, 167, 0, 4, 3, 62, 42, 180, 0, 22, 6, 46, 42, 27, 4, 182, 0, 101, 160, 0, 33]
abbrev dktX8_isAskedToVote_1 : List UInt8 := dkwX8_isAskedToVote_1 ++ dktX8_isAskedToVote_2
def dkwX8_isAskedToVote_0 : List UInt8 := [42, 180, 0, 22, 3, 46, 61, 42, 27, 5, 182, 0, 101, 2, 159, 0, 13, 42, 27, 5, 182, 0, 101, 28]
abbrev dktX8_isAskedToVote_0 : List UInt8 := dkwX8_isAskedToVote_0 ++ dktX8_isAskedToVote_1
theorem dksX8_isAskedToVote_0 : cX8_isAskedToVote.data.toList.drop 0 = dktX8_isAskedToVote_0 := by decide +kernel
theorem dksX8_isAskedToVote_1 : cX8_isAskedToVote.data.toList.drop 24 = dktX8_isAskedToVote_1 := dk_seg dksX8_isAskedToVote_0 24 rfl rfl
theorem dksX8_isAskedToVote_2 : cX8_isAskedToVote.data.toList.drop 48 = dktX8_isAskedToVote_2 := dk_seg dksX8_isAskedToVote_1 24 rfl rfl
theorem dksX8_isAskedToVote_3 : cX8_isAskedToVote.data.toList.drop 71 = dktX8_isAskedToVote_3 := dk_seg dksX8_isAskedToVote_2 23 rfl rfl
theorem dksX8_isAskedToVote_4 : cX8_isAskedToVote.data.toList.drop 95 = dktX8_isAskedToVote_4 := dk_seg dksX8_isAskedToVote_3 24 rfl rfl
theorem dX8_isAskedToVote_0 : decode cX8_isAskedToVote 0 = .ok (.aload_n 0, 1) := dk_42 (dk_at dksX8_isAskedToVote_0 0 rfl rfl)
theorem dX8_isAskedToVote_1 : decode cX8_isAskedToVote 1 = .ok (.getfield 22, 3) := dk_180 0 22 (dk_at dksX8_isAskedToVote_0 1 rfl rfl)
theorem dX8_isAskedToVote_4 : decode cX8_isAskedToVote 4 = .ok (.iconst 0, 1) := dk_3 (dk_at dksX8_isAskedToVote_0 4 rfl rfl)
theorem dX8_isAskedToVote_5 : decode cX8_isAskedToVote 5 = .ok (.iaload, 1) := dk_46 (dk_at dksX8_isAskedToVote_0 5 rfl rfl)
theorem dX8_isAskedToVote_6 : decode cX8_isAskedToVote 6 = .ok (.istore_n 2, 1) := dk_61 (dk_at dksX8_isAskedToVote_0 6 rfl rfl)
theorem dX8_isAskedToVote_7 : decode cX8_isAskedToVote 7 = .ok (.aload_n 0, 1) := dk_42 (dk_at dksX8_isAskedToVote_0 7 rfl rfl)
theorem dX8_isAskedToVote_8 : decode cX8_isAskedToVote 8 = .ok (.iload_n 1, 1) := dk_27 (dk_at dksX8_isAskedToVote_0 8 rfl rfl)
theorem dX8_isAskedToVote_9 : decode cX8_isAskedToVote 9 = .ok (.iconst 2, 1) := dk_5 (dk_at dksX8_isAskedToVote_0 9 rfl rfl)
theorem dX8_isAskedToVote_10 : decode cX8_isAskedToVote 10 = .ok (.invokevirtual 101, 3) := dk_182 0 101 (dk_at dksX8_isAskedToVote_0 10 rfl rfl)
theorem dX8_isAskedToVote_13 : decode cX8_isAskedToVote 13 = .ok (.iconst (-1), 1) := dk_2 (dk_at dksX8_isAskedToVote_0 13 rfl rfl)
theorem dX8_isAskedToVote_14 : decode cX8_isAskedToVote 14 = .ok (.if_icmp .eq 13, 3) := dk_159 0 13 (dk_at dksX8_isAskedToVote_0 14 rfl rfl)
theorem dX8_isAskedToVote_17 : decode cX8_isAskedToVote 17 = .ok (.aload_n 0, 1) := dk_42 (dk_at dksX8_isAskedToVote_0 17 rfl rfl)
theorem dX8_isAskedToVote_18 : decode cX8_isAskedToVote 18 = .ok (.iload_n 1, 1) := dk_27 (dk_at dksX8_isAskedToVote_0 18 rfl rfl)
theorem dX8_isAskedToVote_19 : decode cX8_isAskedToVote 19 = .ok (.iconst 2, 1) := dk_5 (dk_at dksX8_isAskedToVote_0 19 rfl rfl)
theorem dX8_isAskedToVote_20 : decode cX8_isAskedToVote 20 = .ok (.invokevirtual 101, 3) := dk_182 0 101 (dk_at dksX8_isAskedToVote_0 20 rfl rfl)
theorem dX8_isAskedToVote_23 : decode cX8_isAskedToVote 23 = .ok (.iload_n 2, 1) := dk_28 (dk_at dksX8_isAskedToVote_0 23 rfl rfl)
theorem dX8_isAskedToVote_24 : decode cX8_isAskedToVote 24 = .ok (.if_icmp .ne 7, 3) := dk_160 0 7 (dk_at dksX8_isAskedToVote_1 0 rfl rfl)
theorem dX8_isAskedToVote_27 : decode cX8_isAskedToVote 27 = .ok (.iconst 1, 1) := dk_4 (dk_at dksX8_isAskedToVote_1 3 rfl rfl)
theorem dX8_isAskedToVote_28 : decode cX8_isAskedToVote 28 = .ok (.goto 4, 3) := dk_167 0 4 (dk_at dksX8_isAskedToVote_1 4 rfl rfl)
theorem dX8_isAskedToVote_31 : decode cX8_isAskedToVote 31 = .ok (.iconst 0, 1) := dk_3 (dk_at dksX8_isAskedToVote_1 7 rfl rfl)
theorem dX8_isAskedToVote_32 : decode cX8_isAskedToVote 32 = .ok (.istore_n 3, 1) := dk_62 (dk_at dksX8_isAskedToVote_1 8 rfl rfl)
theorem dX8_isAskedToVote_33 : decode cX8_isAskedToVote 33 = .ok (.aload_n 0, 1) := dk_42 (dk_at dksX8_isAskedToVote_1 9 rfl rfl)
theorem dX8_isAskedToVote_34 : decode cX8_isAskedToVote 34 = .ok (.getfield 22, 3) := dk_180 0 22 (dk_at dksX8_isAskedToVote_1 10 rfl rfl)
theorem dX8_isAskedToVote_37 : decode cX8_isAskedToVote 37 = .ok (.iconst 3, 1) := dk_6 (dk_at dksX8_isAskedToVote_1 13 rfl rfl)
theorem dX8_isAskedToVote_38 : decode cX8_isAskedToVote 38 = .ok (.iaload, 1) := dk_46 (dk_at dksX8_isAskedToVote_1 14 rfl rfl)
theorem dX8_isAskedToVote_39 : decode cX8_isAskedToVote 39 = .ok (.aload_n 0, 1) := dk_42 (dk_at dksX8_isAskedToVote_1 15 rfl rfl)
theorem dX8_isAskedToVote_40 : decode cX8_isAskedToVote 40 = .ok (.iload_n 1, 1) := dk_27 (dk_at dksX8_isAskedToVote_1 16 rfl rfl)
theorem dX8_isAskedToVote_41 : decode cX8_isAskedToVote 41 = .ok (.iconst 1, 1) := dk_4 (dk_at dksX8_isAskedToVote_1 17 rfl rfl)
theorem dX8_isAskedToVote_42 : decode cX8_isAskedToVote 42 = .ok (.invokevirtual 101, 3) := dk_182 0 101 (dk_at dksX8_isAskedToVote_1 18 rfl rfl)
theorem dX8_isAskedToVote_45 : decode cX8_isAskedToVote 45 = .ok (.if_icmp .ne 33, 3) := dk_160 0 33 (dk_at dksX8_isAskedToVote_1 21 rfl rfl)
theorem dX8_isAskedToVote_48 : decode cX8_isAskedToVote 48 = .ok (.iload_n 3, 1) := dk_29 (dk_at dksX8_isAskedToVote_2 0 rfl rfl)
theorem dX8_isAskedToVote_49 : decode cX8_isAskedToVote 49 = .ok (.ifCond .eq 29, 3) := dk_153 0 29 (dk_at dksX8_isAskedToVote_2 1 rfl rfl)
theorem dX8_isAskedToVote_52 : decode cX8_isAskedToVote 52 = .ok (.aload_n 0, 1) := dk_42 (dk_at dksX8_isAskedToVote_2 4 rfl rfl)
theorem dX8_isAskedToVote_53 : decode cX8_isAskedToVote 53 = .ok (.iload_n 1, 1) := dk_27 (dk_at dksX8_isAskedToVote_2 5 rfl rfl)
theorem dX8_isAskedToVote_54 : decode cX8_isAskedToVote 54 = .ok (.aload_n 0, 1) := dk_42 (dk_at dksX8_isAskedToVote_2 6 rfl rfl)
theorem dX8_isAskedToVote_55 : decode cX8_isAskedToVote 55 = .ok (.getfield 22, 3) := dk_180 0 22 (dk_at dksX8_isAskedToVote_2 7 rfl rfl)
theorem dX8_isAskedToVote_58 : decode cX8_isAskedToVote 58 = .ok (.bipush 6, 2) := dk_16 6 (dk_at dksX8_isAskedToVote_2 10 rfl rfl)
theorem dX8_isAskedToVote_60 : decode cX8_isAskedToVote 60 = .ok (.iaload, 1) := dk_46 (dk_at dksX8_isAskedToVote_2 12 rfl rfl)
theorem dX8_isAskedToVote_61 : decode cX8_isAskedToVote 61 = .ok (.aload_n 0, 1) := dk_42 (dk_at dksX8_isAskedToVote_2 13 rfl rfl)
theorem dX8_isAskedToVote_62 : decode cX8_isAskedToVote 62 = .ok (.getfield 22, 3) := dk_180 0 22 (dk_at dksX8_isAskedToVote_2 14 rfl rfl)
theorem dX8_isAskedToVote_65 : decode cX8_isAskedToVote 65 = .ok (.bipush 7, 2) := dk_16 7 (dk_at dksX8_isAskedToVote_2 17 rfl rfl)
theorem dX8_isAskedToVote_67 : decode cX8_isAskedToVote 67 = .ok (.iaload, 1) := dk_46 (dk_at dksX8_isAskedToVote_2 19 rfl rfl)
theorem dX8_isAskedToVote_68 : decode cX8_isAskedToVote 68 = .ok (.invokevirtual 368, 3) := dk_182 1 112 (dk_at dksX8_isAskedToVote_2 20 rfl rfl)
theorem dX8_isAskedToVote_71 : decode cX8_isAskedToVote 71 = .ok (.ifCond .eq 7, 3) := dk_153 0 7 (dk_at dksX8_isAskedToVote_3 0 rfl rfl)
theorem dX8_isAskedToVote_74 : decode cX8_isAskedToVote 74 = .ok (.iconst 1, 1) := dk_4 (dk_at dksX8_isAskedToVote_3 3 rfl rfl)
theorem dX8_isAskedToVote_75 : decode cX8_isAskedToVote 75 = .ok (.goto 4, 3) := dk_167 0 4 (dk_at dksX8_isAskedToVote_3 4 rfl rfl)
theorem dX8_isAskedToVote_78 : decode cX8_isAskedToVote 78 = .ok (.iconst 0, 1) := dk_3 (dk_at dksX8_isAskedToVote_3 7 rfl rfl)
theorem dX8_isAskedToVote_79 : decode cX8_isAskedToVote 79 = .ok (.istore 4, 2) := dk_54 4 (dk_at dksX8_isAskedToVote_3 8 rfl rfl)
theorem dX8_isAskedToVote_81 : decode cX8_isAskedToVote 81 = .ok (.iload 4, 2) := dk_21 4 (dk_at dksX8_isAskedToVote_3 10 rfl rfl)
theorem dX8_isAskedToVote_83 : decode cX8_isAskedToVote 83 = .ok (.ifCond .eq 15, 3) := dk_153 0 15 (dk_at dksX8_isAskedToVote_3 12 rfl rfl)
theorem dX8_isAskedToVote_86 : decode cX8_isAskedToVote 86 = .ok (.aload_n 0, 1) := dk_42 (dk_at dksX8_isAskedToVote_3 15 rfl rfl)
theorem dX8_isAskedToVote_87 : decode cX8_isAskedToVote 87 = .ok (.iload_n 1, 1) := dk_27 (dk_at dksX8_isAskedToVote_3 16 rfl rfl)
theorem dX8_isAskedToVote_88 : decode cX8_isAskedToVote 88 = .ok (.iconst 2, 1) := dk_5 (dk_at dksX8_isAskedToVote_3 17 rfl rfl)
theorem dX8_isAskedToVote_89 : decode cX8_isAskedToVote 89 = .ok (.iload_n 2, 1) := dk_28 (dk_at dksX8_isAskedToVote_3 18 rfl rfl)
theorem dX8_isAskedToVote_90 : decode cX8_isAskedToVote 90 = .ok (.invokevirtual 133, 3) := dk_182 0 133 (dk_at dksX8_isAskedToVote_3 19 rfl rfl)
theorem dX8_isAskedToVote_93 : decode cX8_isAskedToVote 93 = .ok (.aload_n 0, 1) := dk_42 (dk_at dksX8_isAskedToVote_3 22 rfl rfl)
theorem dX8_isAskedToVote_94 : decode cX8_isAskedToVote 94 = .ok (.iload_n 1, 1) := dk_27 (dk_at dksX8_isAskedToVote_3 23 rfl rfl)
theorem dX8_isAskedToVote_95 : decode cX8_isAskedToVote 95 = .ok (.invokevirtual 295, 3) := dk_182 1 39 (dk_at dksX8_isAskedToVote_4 0 rfl rfl)
theorem dX8_isAskedToVote_98 : decode cX8_isAskedToVote 98 = .ok (.aload_n 0, 1) := dk_42 (dk_at dksX8_isAskedToVote_4 3 rfl rfl)
theorem dX8_isAskedToVote_99 : decode cX8_isAskedToVote 99 = .ok (.iconst 1, 1) := dk_4 (dk_at dksX8_isAskedToVote_4 4 rfl rfl)
theorem dX8_isAskedToVote_100 : decode cX8_isAskedToVote 100 = .ok (.iload 4, 2) := dk_21 4 (dk_at dksX8_isAskedToVote_4 5 rfl rfl)
theorem dX8_isAskedToVote_102 : decode cX8_isAskedToVote 102 = .ok (.ifCond .eq 7, 3) := dk_153 0 7 (dk_at dksX8_isAskedToVote_4 7 rfl rfl)
theorem dX8_isAskedToVote_105 : decode cX8_isAskedToVote 105 = .ok (.iconst 1, 1) := dk_4 (dk_at dksX8_isAskedToVote_4 10 rfl rfl)
theorem dX8_isAskedToVote_106 : decode cX8_isAskedToVote 106 = .ok (.goto 4, 3) := dk_167 0 4 (dk_at dksX8_isAskedToVote_4 11 rfl rfl)
theorem dX8_isAskedToVote_109 : decode cX8_isAskedToVote 109 = .ok (.iconst 0, 1) := dk_3 (dk_at dksX8_isAskedToVote_4 14 rfl rfl)
theorem dX8_isAskedToVote_110 : decode cX8_isAskedToVote 110 = .ok (.iconst 0, 1) := dk_3 (dk_at dksX8_isAskedToVote_4 15 rfl rfl)
theorem dX8_isAskedToVote_111 : decode cX8_isAskedToVote 111 = .ok (.iconst 0, 1) := dk_3 (dk_at dksX8_isAskedToVote_4 16 rfl rfl)
theorem dX8_isAskedToVote_112 : decode cX8_isAskedToVote 112 = .ok (.invokevirtual 371, 3) := dk_182 1 115 (dk_at dksX8_isAskedToVote_4 17 rfl rfl)
theorem dX8_isAskedToVote_115 : decode cX8_isAskedToVote 115 = .ok (.return_, 1) := dk_177 (dk_at dksX8_isAskedToVote_4 20 rfl rfl)
abbrev cX8_isNoLess : ByteArray := prog_18_method_81_code
def yX8_isNoLess : MethodName := ⟨RX8, "isNoLess", "(III)Z"⟩
def dkwX8_isNoLess_1 : List UInt8 := [28, 42, 27, 182, 0, 108, 161, 0, 7, 4, 167, 0, 4, 3, 172]
abbrev dktX8_isNoLess_1 : List UInt8 := dkwX8_isNoLess_1 ++ []
def dkwX8_isNoLess_0 : List UInt8 := [42, 27, 42, 27, 182, 0, 108, 182, 0, 137, 54, 4, 29, 21, 4, 163, 0, 18, 29, 21, 4, 160, 0, 16]
abbrev dktX8_isNoLess_0 : List UInt8 := dkwX8_isNoLess_0 ++ dktX8_isNoLess_1
theorem dksX8_isNoLess_0 : cX8_isNoLess.data.toList.drop 0 = dktX8_isNoLess_0 := by decide +kernel
theorem dksX8_isNoLess_1 : cX8_isNoLess.data.toList.drop 24 = dktX8_isNoLess_1 := dk_seg dksX8_isNoLess_0 24 rfl rfl
theorem dX8_isNoLess_0 : decode cX8_isNoLess 0 = .ok (.aload_n 0, 1) := dk_42 (dk_at dksX8_isNoLess_0 0 rfl rfl)
theorem dX8_isNoLess_1 : decode cX8_isNoLess 1 = .ok (.iload_n 1, 1) := dk_27 (dk_at dksX8_isNoLess_0 1 rfl rfl)
theorem dX8_isNoLess_2 : decode cX8_isNoLess 2 = .ok (.aload_n 0, 1) := dk_42 (dk_at dksX8_isNoLess_0 2 rfl rfl)
theorem dX8_isNoLess_3 : decode cX8_isNoLess 3 = .ok (.iload_n 1, 1) := dk_27 (dk_at dksX8_isNoLess_0 3 rfl rfl)
theorem dX8_isNoLess_4 : decode cX8_isNoLess 4 = .ok (.invokevirtual 108, 3) := dk_182 0 108 (dk_at dksX8_isNoLess_0 4 rfl rfl)
theorem dX8_isNoLess_7 : decode cX8_isNoLess 7 = .ok (.invokevirtual 137, 3) := dk_182 0 137 (dk_at dksX8_isNoLess_0 7 rfl rfl)
theorem dX8_isNoLess_10 : decode cX8_isNoLess 10 = .ok (.istore 4, 2) := dk_54 4 (dk_at dksX8_isNoLess_0 10 rfl rfl)
theorem dX8_isNoLess_12 : decode cX8_isNoLess 12 = .ok (.iload_n 3, 1) := dk_29 (dk_at dksX8_isNoLess_0 12 rfl rfl)
theorem dX8_isNoLess_13 : decode cX8_isNoLess 13 = .ok (.iload 4, 2) := dk_21 4 (dk_at dksX8_isNoLess_0 13 rfl rfl)
theorem dX8_isNoLess_15 : decode cX8_isNoLess 15 = .ok (.if_icmp .gt 18, 3) := dk_163 0 18 (dk_at dksX8_isNoLess_0 15 rfl rfl)
theorem dX8_isNoLess_18 : decode cX8_isNoLess 18 = .ok (.iload_n 3, 1) := dk_29 (dk_at dksX8_isNoLess_0 18 rfl rfl)
theorem dX8_isNoLess_19 : decode cX8_isNoLess 19 = .ok (.iload 4, 2) := dk_21 4 (dk_at dksX8_isNoLess_0 19 rfl rfl)
theorem dX8_isNoLess_21 : decode cX8_isNoLess 21 = .ok (.if_icmp .ne 16, 3) := dk_160 0 16 (dk_at dksX8_isNoLess_0 21 rfl rfl)
theorem dX8_isNoLess_24 : decode cX8_isNoLess 24 = .ok (.iload_n 2, 1) := dk_28 (dk_at dksX8_isNoLess_1 0 rfl rfl)
theorem dX8_isNoLess_25 : decode cX8_isNoLess 25 = .ok (.aload_n 0, 1) := dk_42 (dk_at dksX8_isNoLess_1 1 rfl rfl)
theorem dX8_isNoLess_26 : decode cX8_isNoLess 26 = .ok (.iload_n 1, 1) := dk_27 (dk_at dksX8_isNoLess_1 2 rfl rfl)
theorem dX8_isNoLess_27 : decode cX8_isNoLess 27 = .ok (.invokevirtual 108, 3) := dk_182 0 108 (dk_at dksX8_isNoLess_1 3 rfl rfl)
theorem dX8_isNoLess_30 : decode cX8_isNoLess 30 = .ok (.if_icmp .lt 7, 3) := dk_161 0 7 (dk_at dksX8_isNoLess_1 6 rfl rfl)
theorem dX8_isNoLess_33 : decode cX8_isNoLess 33 = .ok (.iconst 1, 1) := dk_4 (dk_at dksX8_isNoLess_1 9 rfl rfl)
theorem dX8_isNoLess_34 : decode cX8_isNoLess 34 = .ok (.goto 4, 3) := dk_167 0 4 (dk_at dksX8_isNoLess_1 10 rfl rfl)
theorem dX8_isNoLess_37 : decode cX8_isNoLess 37 = .ok (.iconst 0, 1) := dk_3 (dk_at dksX8_isNoLess_1 13 rfl rfl)
theorem dX8_isNoLess_38 : decode cX8_isNoLess 38 = .ok (.ireturn, 1) := dk_172 (dk_at dksX8_isNoLess_1 14 rfl rfl)
abbrev cX8_lastOf : ByteArray := prog_18_method_13_code
def yX8_lastOf : MethodName := ⟨RX8, "lastOf", "(I)I"⟩
def dkwX8_lastOf_0 : List UInt8 := [42, 27, 7, 182, 0, 101, 42, 27, 16, 8, 182, 0, 101, 96, 172]
abbrev dktX8_lastOf_0 : List UInt8 := dkwX8_lastOf_0 ++ []
theorem dksX8_lastOf_0 : cX8_lastOf.data.toList.drop 0 = dktX8_lastOf_0 := by decide +kernel
theorem dX8_lastOf_0 : decode cX8_lastOf 0 = .ok (.aload_n 0, 1) := dk_42 (dk_at dksX8_lastOf_0 0 rfl rfl)
theorem dX8_lastOf_1 : decode cX8_lastOf 1 = .ok (.iload_n 1, 1) := dk_27 (dk_at dksX8_lastOf_0 1 rfl rfl)
theorem dX8_lastOf_2 : decode cX8_lastOf 2 = .ok (.iconst 4, 1) := dk_7 (dk_at dksX8_lastOf_0 2 rfl rfl)
theorem dX8_lastOf_3 : decode cX8_lastOf 3 = .ok (.invokevirtual 101, 3) := dk_182 0 101 (dk_at dksX8_lastOf_0 3 rfl rfl)
theorem dX8_lastOf_6 : decode cX8_lastOf 6 = .ok (.aload_n 0, 1) := dk_42 (dk_at dksX8_lastOf_0 6 rfl rfl)
theorem dX8_lastOf_7 : decode cX8_lastOf 7 = .ok (.iload_n 1, 1) := dk_27 (dk_at dksX8_lastOf_0 7 rfl rfl)
theorem dX8_lastOf_8 : decode cX8_lastOf 8 = .ok (.bipush 8, 2) := dk_16 8 (dk_at dksX8_lastOf_0 8 rfl rfl)
theorem dX8_lastOf_10 : decode cX8_lastOf 10 = .ok (.invokevirtual 101, 3) := dk_182 0 101 (dk_at dksX8_lastOf_0 10 rfl rfl)
theorem dX8_lastOf_13 : decode cX8_lastOf 13 = .ok (.iadd, 1) := dk_96 (dk_at dksX8_lastOf_0 13 rfl rfl)
theorem dX8_lastOf_14 : decode cX8_lastOf 14 = .ok (.ireturn, 1) := dk_172 (dk_at dksX8_lastOf_0 14 rfl rfl)
abbrev cX8_termAt : ByteArray := prog_18_method_16_code
def yX8_termAt : MethodName := ⟨RX8, "termAt", "(II)I"⟩
def dkwX8_termAt_1 : List UInt8 := [27, 28, 182, 0, 112, 46, 172]
abbrev dktX8_termAt_1 : List UInt8 := dkwX8_termAt_1 ++ []
def dkwX8_termAt_0 : List UInt8 := [28, 42, 27, 7, 182, 0, 101, 160, 0, 12, 42, 27, 8, 182, 0, 101, 167, 0, 14, 42, 180, 0, 7, 42]
abbrev dktX8_termAt_0 : List UInt8 := dkwX8_termAt_0 ++ dktX8_termAt_1
theorem dksX8_termAt_0 : cX8_termAt.data.toList.drop 0 = dktX8_termAt_0 := by decide +kernel
theorem dksX8_termAt_1 : cX8_termAt.data.toList.drop 24 = dktX8_termAt_1 := dk_seg dksX8_termAt_0 24 rfl rfl
theorem dX8_termAt_0 : decode cX8_termAt 0 = .ok (.iload_n 2, 1) := dk_28 (dk_at dksX8_termAt_0 0 rfl rfl)
theorem dX8_termAt_1 : decode cX8_termAt 1 = .ok (.aload_n 0, 1) := dk_42 (dk_at dksX8_termAt_0 1 rfl rfl)
theorem dX8_termAt_2 : decode cX8_termAt 2 = .ok (.iload_n 1, 1) := dk_27 (dk_at dksX8_termAt_0 2 rfl rfl)
theorem dX8_termAt_3 : decode cX8_termAt 3 = .ok (.iconst 4, 1) := dk_7 (dk_at dksX8_termAt_0 3 rfl rfl)
theorem dX8_termAt_4 : decode cX8_termAt 4 = .ok (.invokevirtual 101, 3) := dk_182 0 101 (dk_at dksX8_termAt_0 4 rfl rfl)
theorem dX8_termAt_7 : decode cX8_termAt 7 = .ok (.if_icmp .ne 12, 3) := dk_160 0 12 (dk_at dksX8_termAt_0 7 rfl rfl)
theorem dX8_termAt_10 : decode cX8_termAt 10 = .ok (.aload_n 0, 1) := dk_42 (dk_at dksX8_termAt_0 10 rfl rfl)
theorem dX8_termAt_11 : decode cX8_termAt 11 = .ok (.iload_n 1, 1) := dk_27 (dk_at dksX8_termAt_0 11 rfl rfl)
theorem dX8_termAt_12 : decode cX8_termAt 12 = .ok (.iconst 5, 1) := dk_8 (dk_at dksX8_termAt_0 12 rfl rfl)
theorem dX8_termAt_13 : decode cX8_termAt 13 = .ok (.invokevirtual 101, 3) := dk_182 0 101 (dk_at dksX8_termAt_0 13 rfl rfl)
theorem dX8_termAt_16 : decode cX8_termAt 16 = .ok (.goto 14, 3) := dk_167 0 14 (dk_at dksX8_termAt_0 16 rfl rfl)
theorem dX8_termAt_19 : decode cX8_termAt 19 = .ok (.aload_n 0, 1) := dk_42 (dk_at dksX8_termAt_0 19 rfl rfl)
theorem dX8_termAt_20 : decode cX8_termAt 20 = .ok (.getfield 7, 3) := dk_180 0 7 (dk_at dksX8_termAt_0 20 rfl rfl)
theorem dX8_termAt_23 : decode cX8_termAt 23 = .ok (.aload_n 0, 1) := dk_42 (dk_at dksX8_termAt_0 23 rfl rfl)
theorem dX8_termAt_24 : decode cX8_termAt 24 = .ok (.iload_n 1, 1) := dk_27 (dk_at dksX8_termAt_1 0 rfl rfl)
theorem dX8_termAt_25 : decode cX8_termAt 25 = .ok (.iload_n 2, 1) := dk_28 (dk_at dksX8_termAt_1 1 rfl rfl)
theorem dX8_termAt_26 : decode cX8_termAt 26 = .ok (.invokevirtual 112, 3) := dk_182 0 112 (dk_at dksX8_termAt_1 2 rfl rfl)
theorem dX8_termAt_29 : decode cX8_termAt 29 = .ok (.iaload, 1) := dk_46 (dk_at dksX8_termAt_1 5 rfl rfl)
theorem dX8_termAt_30 : decode cX8_termAt 30 = .ok (.ireturn, 1) := dk_172 (dk_at dksX8_termAt_1 6 rfl rfl)
abbrev cX8_logPlace : ByteArray := prog_18_method_14_code
def yX8_logPlace : MethodName := ⟨RX8, "logPlace", "(II)I"⟩
def dkwX8_logPlace_0 : List UInt8 := [17, 0, 244, 27, 104, 16, 52, 96, 7, 28, 42, 27, 7, 182, 0, 101, 100, 4, 100, 104, 96, 172]
abbrev dktX8_logPlace_0 : List UInt8 := dkwX8_logPlace_0 ++ []
theorem dksX8_logPlace_0 : cX8_logPlace.data.toList.drop 0 = dktX8_logPlace_0 := by decide +kernel
theorem dX8_logPlace_0 : decode cX8_logPlace 0 = .ok (.sipush 244, 3) := dk_17 0 244 (dk_at dksX8_logPlace_0 0 rfl rfl)
theorem dX8_logPlace_3 : decode cX8_logPlace 3 = .ok (.iload_n 1, 1) := dk_27 (dk_at dksX8_logPlace_0 3 rfl rfl)
theorem dX8_logPlace_4 : decode cX8_logPlace 4 = .ok (.imul, 1) := dk_104 (dk_at dksX8_logPlace_0 4 rfl rfl)
theorem dX8_logPlace_5 : decode cX8_logPlace 5 = .ok (.bipush 52, 2) := dk_16 52 (dk_at dksX8_logPlace_0 5 rfl rfl)
theorem dX8_logPlace_7 : decode cX8_logPlace 7 = .ok (.iadd, 1) := dk_96 (dk_at dksX8_logPlace_0 7 rfl rfl)
theorem dX8_logPlace_8 : decode cX8_logPlace 8 = .ok (.iconst 4, 1) := dk_7 (dk_at dksX8_logPlace_0 8 rfl rfl)
theorem dX8_logPlace_9 : decode cX8_logPlace 9 = .ok (.iload_n 2, 1) := dk_28 (dk_at dksX8_logPlace_0 9 rfl rfl)
theorem dX8_logPlace_10 : decode cX8_logPlace 10 = .ok (.aload_n 0, 1) := dk_42 (dk_at dksX8_logPlace_0 10 rfl rfl)
theorem dX8_logPlace_11 : decode cX8_logPlace 11 = .ok (.iload_n 1, 1) := dk_27 (dk_at dksX8_logPlace_0 11 rfl rfl)
theorem dX8_logPlace_12 : decode cX8_logPlace 12 = .ok (.iconst 4, 1) := dk_7 (dk_at dksX8_logPlace_0 12 rfl rfl)
theorem dX8_logPlace_13 : decode cX8_logPlace 13 = .ok (.invokevirtual 101, 3) := dk_182 0 101 (dk_at dksX8_logPlace_0 13 rfl rfl)
theorem dX8_logPlace_16 : decode cX8_logPlace 16 = .ok (.isub, 1) := dk_100 (dk_at dksX8_logPlace_0 16 rfl rfl)
theorem dX8_logPlace_17 : decode cX8_logPlace 17 = .ok (.iconst 1, 1) := dk_4 (dk_at dksX8_logPlace_0 17 rfl rfl)
theorem dX8_logPlace_18 : decode cX8_logPlace 18 = .ok (.isub, 1) := dk_100 (dk_at dksX8_logPlace_0 18 rfl rfl)
theorem dX8_logPlace_19 : decode cX8_logPlace 19 = .ok (.imul, 1) := dk_104 (dk_at dksX8_logPlace_0 19 rfl rfl)
theorem dX8_logPlace_20 : decode cX8_logPlace 20 = .ok (.iadd, 1) := dk_96 (dk_at dksX8_logPlace_0 20 rfl rfl)
theorem dX8_logPlace_21 : decode cX8_logPlace 21 = .ok (.ireturn, 1) := dk_172 (dk_at dksX8_logPlace_0 21 rfl rfl)
abbrev cX8_answersBy : ByteArray := prog_18_method_60_code
def yX8_answersBy : MethodName := ⟨RX8, "answersBy", "(IIII)V"⟩
def dkwX8_answersBy_1 : List UInt8 := [79, 42, 180, 0, 19, 16, 7, 29, 79, 42, 180, 0, 19, 16, 10, 21, 4, 79, 42, 182, 1, 18, 177]
abbrev dktX8_answersBy_1 : List UInt8 := dkwX8_answersBy_1 ++ []
def dkwX8_answersBy_0 : List UInt8 := [42, 42, 180, 0, 22, 4, 46, 42, 180, 0, 22, 3, 46, 27, 182, 1, 15, 42, 180, 0, 19, 16, 6, 28]
abbrev dktX8_answersBy_0 : List UInt8 := dkwX8_answersBy_0 ++ dktX8_answersBy_1
theorem dksX8_answersBy_0 : cX8_answersBy.data.toList.drop 0 = dktX8_answersBy_0 := by decide +kernel
theorem dksX8_answersBy_1 : cX8_answersBy.data.toList.drop 24 = dktX8_answersBy_1 := dk_seg dksX8_answersBy_0 24 rfl rfl
theorem dX8_answersBy_0 : decode cX8_answersBy 0 = .ok (.aload_n 0, 1) := dk_42 (dk_at dksX8_answersBy_0 0 rfl rfl)
theorem dX8_answersBy_1 : decode cX8_answersBy 1 = .ok (.aload_n 0, 1) := dk_42 (dk_at dksX8_answersBy_0 1 rfl rfl)
theorem dX8_answersBy_2 : decode cX8_answersBy 2 = .ok (.getfield 22, 3) := dk_180 0 22 (dk_at dksX8_answersBy_0 2 rfl rfl)
theorem dX8_answersBy_5 : decode cX8_answersBy 5 = .ok (.iconst 1, 1) := dk_4 (dk_at dksX8_answersBy_0 5 rfl rfl)
theorem dX8_answersBy_6 : decode cX8_answersBy 6 = .ok (.iaload, 1) := dk_46 (dk_at dksX8_answersBy_0 6 rfl rfl)
theorem dX8_answersBy_7 : decode cX8_answersBy 7 = .ok (.aload_n 0, 1) := dk_42 (dk_at dksX8_answersBy_0 7 rfl rfl)
theorem dX8_answersBy_8 : decode cX8_answersBy 8 = .ok (.getfield 22, 3) := dk_180 0 22 (dk_at dksX8_answersBy_0 8 rfl rfl)
theorem dX8_answersBy_11 : decode cX8_answersBy 11 = .ok (.iconst 0, 1) := dk_3 (dk_at dksX8_answersBy_0 11 rfl rfl)
theorem dX8_answersBy_12 : decode cX8_answersBy 12 = .ok (.iaload, 1) := dk_46 (dk_at dksX8_answersBy_0 12 rfl rfl)
theorem dX8_answersBy_13 : decode cX8_answersBy 13 = .ok (.iload_n 1, 1) := dk_27 (dk_at dksX8_answersBy_0 13 rfl rfl)
theorem dX8_answersBy_14 : decode cX8_answersBy 14 = .ok (.invokevirtual 271, 3) := dk_182 1 15 (dk_at dksX8_answersBy_0 14 rfl rfl)
theorem dX8_answersBy_17 : decode cX8_answersBy 17 = .ok (.aload_n 0, 1) := dk_42 (dk_at dksX8_answersBy_0 17 rfl rfl)
theorem dX8_answersBy_18 : decode cX8_answersBy 18 = .ok (.getfield 19, 3) := dk_180 0 19 (dk_at dksX8_answersBy_0 18 rfl rfl)
theorem dX8_answersBy_21 : decode cX8_answersBy 21 = .ok (.bipush 6, 2) := dk_16 6 (dk_at dksX8_answersBy_0 21 rfl rfl)
theorem dX8_answersBy_23 : decode cX8_answersBy 23 = .ok (.iload_n 2, 1) := dk_28 (dk_at dksX8_answersBy_0 23 rfl rfl)
theorem dX8_answersBy_24 : decode cX8_answersBy 24 = .ok (.iastore, 1) := dk_79 (dk_at dksX8_answersBy_1 0 rfl rfl)
theorem dX8_answersBy_25 : decode cX8_answersBy 25 = .ok (.aload_n 0, 1) := dk_42 (dk_at dksX8_answersBy_1 1 rfl rfl)
theorem dX8_answersBy_26 : decode cX8_answersBy 26 = .ok (.getfield 19, 3) := dk_180 0 19 (dk_at dksX8_answersBy_1 2 rfl rfl)
theorem dX8_answersBy_29 : decode cX8_answersBy 29 = .ok (.bipush 7, 2) := dk_16 7 (dk_at dksX8_answersBy_1 5 rfl rfl)
theorem dX8_answersBy_31 : decode cX8_answersBy 31 = .ok (.iload_n 3, 1) := dk_29 (dk_at dksX8_answersBy_1 7 rfl rfl)
theorem dX8_answersBy_32 : decode cX8_answersBy 32 = .ok (.iastore, 1) := dk_79 (dk_at dksX8_answersBy_1 8 rfl rfl)
theorem dX8_answersBy_33 : decode cX8_answersBy 33 = .ok (.aload_n 0, 1) := dk_42 (dk_at dksX8_answersBy_1 9 rfl rfl)
theorem dX8_answersBy_34 : decode cX8_answersBy 34 = .ok (.getfield 19, 3) := dk_180 0 19 (dk_at dksX8_answersBy_1 10 rfl rfl)
theorem dX8_answersBy_37 : decode cX8_answersBy 37 = .ok (.bipush 10, 2) := dk_16 10 (dk_at dksX8_answersBy_1 13 rfl rfl)
theorem dX8_answersBy_39 : decode cX8_answersBy 39 = .ok (.iload 4, 2) := dk_21 4 (dk_at dksX8_answersBy_1 15 rfl rfl)
theorem dX8_answersBy_41 : decode cX8_answersBy 41 = .ok (.iastore, 1) := dk_79 (dk_at dksX8_answersBy_1 17 rfl rfl)
theorem dX8_answersBy_42 : decode cX8_answersBy 42 = .ok (.aload_n 0, 1) := dk_42 (dk_at dksX8_answersBy_1 18 rfl rfl)
theorem dX8_answersBy_43 : decode cX8_answersBy 43 = .ok (.invokevirtual 274, 3) := dk_182 1 18 (dk_at dksX8_answersBy_1 19 rfl rfl)
theorem dX8_answersBy_46 : decode cX8_answersBy 46 = .ok (.return_, 1) := dk_177 (dk_at dksX8_answersBy_1 22 rfl rfl)
abbrev cX8_beginsMail : ByteArray := prog_18_method_57_code
def yX8_beginsMail : MethodName := ⟨RX8, "beginsMail", "(III)V"⟩
def dkwX8_beginsMail_2 : List UInt8 := [180, 0, 19, 6, 42, 27, 4, 182, 0, 101, 79, 177]
abbrev dktX8_beginsMail_2 : List UInt8 := dkwX8_beginsMail_2 ++ []
def dkwX8_beginsMail_1 : List UInt8 := [42, 180, 0, 19, 3, 27, 79, 42, 180, 0, 19, 4, 28, 79, 42, 180, 0, 19, 5, 29, 79, 42]
abbrev dktX8_beginsMail_1 : List UInt8 := dkwX8_beginsMail_1 ++ dktX8_beginsMail_2
def dkwX8_beginsMail_0 : List UInt8 := [3, 54, 4, 21, 4, 16, 27, 162, 0, 17, 42, 180, 0, 19, 21, 4, 3, 79, 132, 4, 1, 167, 255, 238]
abbrev dktX8_beginsMail_0 : List UInt8 := dkwX8_beginsMail_0 ++ dktX8_beginsMail_1
theorem dksX8_beginsMail_0 : cX8_beginsMail.data.toList.drop 0 = dktX8_beginsMail_0 := by decide +kernel
theorem dksX8_beginsMail_1 : cX8_beginsMail.data.toList.drop 24 = dktX8_beginsMail_1 := dk_seg dksX8_beginsMail_0 24 rfl rfl
theorem dksX8_beginsMail_2 : cX8_beginsMail.data.toList.drop 46 = dktX8_beginsMail_2 := dk_seg dksX8_beginsMail_1 22 rfl rfl
theorem dX8_beginsMail_0 : decode cX8_beginsMail 0 = .ok (.iconst 0, 1) := dk_3 (dk_at dksX8_beginsMail_0 0 rfl rfl)
theorem dX8_beginsMail_1 : decode cX8_beginsMail 1 = .ok (.istore 4, 2) := dk_54 4 (dk_at dksX8_beginsMail_0 1 rfl rfl)
theorem dX8_beginsMail_3 : decode cX8_beginsMail 3 = .ok (.iload 4, 2) := dk_21 4 (dk_at dksX8_beginsMail_0 3 rfl rfl)
theorem dX8_beginsMail_5 : decode cX8_beginsMail 5 = .ok (.bipush 27, 2) := dk_16 27 (dk_at dksX8_beginsMail_0 5 rfl rfl)
theorem dX8_beginsMail_7 : decode cX8_beginsMail 7 = .ok (.if_icmp .ge 17, 3) := dk_162 0 17 (dk_at dksX8_beginsMail_0 7 rfl rfl)
theorem dX8_beginsMail_10 : decode cX8_beginsMail 10 = .ok (.aload_n 0, 1) := dk_42 (dk_at dksX8_beginsMail_0 10 rfl rfl)
theorem dX8_beginsMail_11 : decode cX8_beginsMail 11 = .ok (.getfield 19, 3) := dk_180 0 19 (dk_at dksX8_beginsMail_0 11 rfl rfl)
theorem dX8_beginsMail_14 : decode cX8_beginsMail 14 = .ok (.iload 4, 2) := dk_21 4 (dk_at dksX8_beginsMail_0 14 rfl rfl)
theorem dX8_beginsMail_16 : decode cX8_beginsMail 16 = .ok (.iconst 0, 1) := dk_3 (dk_at dksX8_beginsMail_0 16 rfl rfl)
theorem dX8_beginsMail_17 : decode cX8_beginsMail 17 = .ok (.iastore, 1) := dk_79 (dk_at dksX8_beginsMail_0 17 rfl rfl)
theorem dX8_beginsMail_18 : decode cX8_beginsMail 18 = .ok (.iinc 4 1, 3) := dk_132 4 1 (dk_at dksX8_beginsMail_0 18 rfl rfl)
theorem dX8_beginsMail_21 : decode cX8_beginsMail 21 = .ok (.goto (-18), 3) := dk_167 255 238 (dk_at dksX8_beginsMail_0 21 rfl rfl)
theorem dX8_beginsMail_24 : decode cX8_beginsMail 24 = .ok (.aload_n 0, 1) := dk_42 (dk_at dksX8_beginsMail_1 0 rfl rfl)
theorem dX8_beginsMail_25 : decode cX8_beginsMail 25 = .ok (.getfield 19, 3) := dk_180 0 19 (dk_at dksX8_beginsMail_1 1 rfl rfl)
theorem dX8_beginsMail_28 : decode cX8_beginsMail 28 = .ok (.iconst 0, 1) := dk_3 (dk_at dksX8_beginsMail_1 4 rfl rfl)
theorem dX8_beginsMail_29 : decode cX8_beginsMail 29 = .ok (.iload_n 1, 1) := dk_27 (dk_at dksX8_beginsMail_1 5 rfl rfl)
theorem dX8_beginsMail_30 : decode cX8_beginsMail 30 = .ok (.iastore, 1) := dk_79 (dk_at dksX8_beginsMail_1 6 rfl rfl)
theorem dX8_beginsMail_31 : decode cX8_beginsMail 31 = .ok (.aload_n 0, 1) := dk_42 (dk_at dksX8_beginsMail_1 7 rfl rfl)
theorem dX8_beginsMail_32 : decode cX8_beginsMail 32 = .ok (.getfield 19, 3) := dk_180 0 19 (dk_at dksX8_beginsMail_1 8 rfl rfl)
theorem dX8_beginsMail_35 : decode cX8_beginsMail 35 = .ok (.iconst 1, 1) := dk_4 (dk_at dksX8_beginsMail_1 11 rfl rfl)
theorem dX8_beginsMail_36 : decode cX8_beginsMail 36 = .ok (.iload_n 2, 1) := dk_28 (dk_at dksX8_beginsMail_1 12 rfl rfl)
theorem dX8_beginsMail_37 : decode cX8_beginsMail 37 = .ok (.iastore, 1) := dk_79 (dk_at dksX8_beginsMail_1 13 rfl rfl)
theorem dX8_beginsMail_38 : decode cX8_beginsMail 38 = .ok (.aload_n 0, 1) := dk_42 (dk_at dksX8_beginsMail_1 14 rfl rfl)
theorem dX8_beginsMail_39 : decode cX8_beginsMail 39 = .ok (.getfield 19, 3) := dk_180 0 19 (dk_at dksX8_beginsMail_1 15 rfl rfl)
theorem dX8_beginsMail_42 : decode cX8_beginsMail 42 = .ok (.iconst 2, 1) := dk_5 (dk_at dksX8_beginsMail_1 18 rfl rfl)
theorem dX8_beginsMail_43 : decode cX8_beginsMail 43 = .ok (.iload_n 3, 1) := dk_29 (dk_at dksX8_beginsMail_1 19 rfl rfl)
theorem dX8_beginsMail_44 : decode cX8_beginsMail 44 = .ok (.iastore, 1) := dk_79 (dk_at dksX8_beginsMail_1 20 rfl rfl)
theorem dX8_beginsMail_45 : decode cX8_beginsMail 45 = .ok (.aload_n 0, 1) := dk_42 (dk_at dksX8_beginsMail_1 21 rfl rfl)
theorem dX8_beginsMail_46 : decode cX8_beginsMail 46 = .ok (.getfield 19, 3) := dk_180 0 19 (dk_at dksX8_beginsMail_2 0 rfl rfl)
theorem dX8_beginsMail_49 : decode cX8_beginsMail 49 = .ok (.iconst 3, 1) := dk_6 (dk_at dksX8_beginsMail_2 3 rfl rfl)
theorem dX8_beginsMail_50 : decode cX8_beginsMail 50 = .ok (.aload_n 0, 1) := dk_42 (dk_at dksX8_beginsMail_2 4 rfl rfl)
theorem dX8_beginsMail_51 : decode cX8_beginsMail 51 = .ok (.iload_n 1, 1) := dk_27 (dk_at dksX8_beginsMail_2 5 rfl rfl)
theorem dX8_beginsMail_52 : decode cX8_beginsMail 52 = .ok (.iconst 1, 1) := dk_4 (dk_at dksX8_beginsMail_2 6 rfl rfl)
theorem dX8_beginsMail_53 : decode cX8_beginsMail 53 = .ok (.invokevirtual 101, 3) := dk_182 0 101 (dk_at dksX8_beginsMail_2 7 rfl rfl)
theorem dX8_beginsMail_56 : decode cX8_beginsMail 56 = .ok (.iastore, 1) := dk_79 (dk_at dksX8_beginsMail_2 10 rfl rfl)
theorem dX8_beginsMail_57 : decode cX8_beginsMail 57 = .ok (.return_, 1) := dk_177 (dk_at dksX8_beginsMail_2 11 rfl rfl)
abbrev cX8_posts : ByteArray := prog_18_method_59_code
def yX8_posts : MethodName := ⟨RX8, "posts", "()V"⟩
def dkwX8_posts_6 : List UInt8 := [167, 255, 230, 42, 180, 0, 7, 17, 43, 125, 42, 180, 0, 7, 17, 43, 125, 46, 4, 96, 79, 177]
abbrev dktX8_posts_6 : List UInt8 := dkwX8_posts_6 ++ []
def dkwX8_posts_5 : List UInt8 := [162, 0, 25, 42, 180, 0, 7, 29, 21, 4, 96, 42, 180, 0, 19, 21, 4, 46, 79, 132, 4, 1]
abbrev dktX8_posts_5 : List UInt8 := dkwX8_posts_5 ++ dktX8_posts_6
def dkwX8_posts_4 : List UInt8 := [17, 6, 172, 16, 27, 42, 180, 0, 7, 17, 43, 125, 46, 104, 96, 62, 3, 54, 4, 21, 4, 16, 27]
abbrev dktX8_posts_4 : List UInt8 := dkwX8_posts_4 ++ dktX8_posts_5
def dkwX8_posts_3 : List UInt8 := [182, 1, 12, 177, 42, 180, 0, 19, 7, 42, 180, 0, 7, 17, 43, 123, 46, 4, 96, 28, 96, 79]
abbrev dktX8_posts_3 : List UInt8 := dkwX8_posts_3 ++ dktX8_posts_4
def dkwX8_posts_2 : List UInt8 := [16, 10, 3, 182, 1, 4, 161, 0, 17, 42, 180, 0, 7, 17, 43, 125, 46, 17, 0, 160, 160, 0, 8, 42]
abbrev dktX8_posts_2 : List UInt8 := dkwX8_posts_2 ++ dktX8_posts_3
def dkwX8_posts_1 : List UInt8 := [16, 100, 3, 16, 9, 3, 182, 1, 4, 61, 42, 16, 120, 182, 1, 9, 154, 0, 31, 27, 42, 16, 108, 3]
abbrev dktX8_posts_1 : List UInt8 := dkwX8_posts_1 ++ dktX8_posts_2
def dkwX8_posts_0 : List UInt8 := [42, 42, 180, 0, 19, 3, 46, 42, 180, 0, 19, 4, 46, 42, 180, 0, 19, 5, 46, 182, 1, 1, 60, 42]
abbrev dktX8_posts_0 : List UInt8 := dkwX8_posts_0 ++ dktX8_posts_1
theorem dksX8_posts_0 : cX8_posts.data.toList.drop 0 = dktX8_posts_0 := by decide +kernel
theorem dksX8_posts_1 : cX8_posts.data.toList.drop 24 = dktX8_posts_1 := dk_seg dksX8_posts_0 24 rfl rfl
theorem dksX8_posts_2 : cX8_posts.data.toList.drop 48 = dktX8_posts_2 := dk_seg dksX8_posts_1 24 rfl rfl
theorem dksX8_posts_3 : cX8_posts.data.toList.drop 72 = dktX8_posts_3 := dk_seg dksX8_posts_2 24 rfl rfl
theorem dksX8_posts_4 : cX8_posts.data.toList.drop 94 = dktX8_posts_4 := dk_seg dksX8_posts_3 22 rfl rfl
theorem dksX8_posts_5 : cX8_posts.data.toList.drop 117 = dktX8_posts_5 := dk_seg dksX8_posts_4 23 rfl rfl
theorem dksX8_posts_6 : cX8_posts.data.toList.drop 139 = dktX8_posts_6 := dk_seg dksX8_posts_5 22 rfl rfl
theorem dX8_posts_0 : decode cX8_posts 0 = .ok (.aload_n 0, 1) := dk_42 (dk_at dksX8_posts_0 0 rfl rfl)
theorem dX8_posts_1 : decode cX8_posts 1 = .ok (.aload_n 0, 1) := dk_42 (dk_at dksX8_posts_0 1 rfl rfl)
theorem dX8_posts_2 : decode cX8_posts 2 = .ok (.getfield 19, 3) := dk_180 0 19 (dk_at dksX8_posts_0 2 rfl rfl)
theorem dX8_posts_5 : decode cX8_posts 5 = .ok (.iconst 0, 1) := dk_3 (dk_at dksX8_posts_0 5 rfl rfl)
theorem dX8_posts_6 : decode cX8_posts 6 = .ok (.iaload, 1) := dk_46 (dk_at dksX8_posts_0 6 rfl rfl)
theorem dX8_posts_7 : decode cX8_posts 7 = .ok (.aload_n 0, 1) := dk_42 (dk_at dksX8_posts_0 7 rfl rfl)
theorem dX8_posts_8 : decode cX8_posts 8 = .ok (.getfield 19, 3) := dk_180 0 19 (dk_at dksX8_posts_0 8 rfl rfl)
theorem dX8_posts_11 : decode cX8_posts 11 = .ok (.iconst 1, 1) := dk_4 (dk_at dksX8_posts_0 11 rfl rfl)
theorem dX8_posts_12 : decode cX8_posts 12 = .ok (.iaload, 1) := dk_46 (dk_at dksX8_posts_0 12 rfl rfl)
theorem dX8_posts_13 : decode cX8_posts 13 = .ok (.aload_n 0, 1) := dk_42 (dk_at dksX8_posts_0 13 rfl rfl)
theorem dX8_posts_14 : decode cX8_posts 14 = .ok (.getfield 19, 3) := dk_180 0 19 (dk_at dksX8_posts_0 14 rfl rfl)
theorem dX8_posts_17 : decode cX8_posts 17 = .ok (.iconst 2, 1) := dk_5 (dk_at dksX8_posts_0 17 rfl rfl)
theorem dX8_posts_18 : decode cX8_posts 18 = .ok (.iaload, 1) := dk_46 (dk_at dksX8_posts_0 18 rfl rfl)
theorem dX8_posts_19 : decode cX8_posts 19 = .ok (.invokevirtual 257, 3) := dk_182 1 1 (dk_at dksX8_posts_0 19 rfl rfl)
theorem dX8_posts_22 : decode cX8_posts 22 = .ok (.istore_n 1, 1) := dk_60 (dk_at dksX8_posts_0 22 rfl rfl)
theorem dX8_posts_23 : decode cX8_posts 23 = .ok (.aload_n 0, 1) := dk_42 (dk_at dksX8_posts_0 23 rfl rfl)
theorem dX8_posts_24 : decode cX8_posts 24 = .ok (.bipush 100, 2) := dk_16 100 (dk_at dksX8_posts_1 0 rfl rfl)
theorem dX8_posts_26 : decode cX8_posts 26 = .ok (.iconst 0, 1) := dk_3 (dk_at dksX8_posts_1 2 rfl rfl)
theorem dX8_posts_27 : decode cX8_posts 27 = .ok (.bipush 9, 2) := dk_16 9 (dk_at dksX8_posts_1 3 rfl rfl)
theorem dX8_posts_29 : decode cX8_posts 29 = .ok (.iconst 0, 1) := dk_3 (dk_at dksX8_posts_1 5 rfl rfl)
theorem dX8_posts_30 : decode cX8_posts 30 = .ok (.invokevirtual 260, 3) := dk_182 1 4 (dk_at dksX8_posts_1 6 rfl rfl)
theorem dX8_posts_33 : decode cX8_posts 33 = .ok (.istore_n 2, 1) := dk_61 (dk_at dksX8_posts_1 9 rfl rfl)
theorem dX8_posts_34 : decode cX8_posts 34 = .ok (.aload_n 0, 1) := dk_42 (dk_at dksX8_posts_1 10 rfl rfl)
theorem dX8_posts_35 : decode cX8_posts 35 = .ok (.bipush 120, 2) := dk_16 120 (dk_at dksX8_posts_1 11 rfl rfl)
theorem dX8_posts_37 : decode cX8_posts 37 = .ok (.invokevirtual 265, 3) := dk_182 1 9 (dk_at dksX8_posts_1 13 rfl rfl)
theorem dX8_posts_40 : decode cX8_posts 40 = .ok (.ifCond .ne 31, 3) := dk_154 0 31 (dk_at dksX8_posts_1 16 rfl rfl)
theorem dX8_posts_43 : decode cX8_posts 43 = .ok (.iload_n 1, 1) := dk_27 (dk_at dksX8_posts_1 19 rfl rfl)
theorem dX8_posts_44 : decode cX8_posts 44 = .ok (.aload_n 0, 1) := dk_42 (dk_at dksX8_posts_1 20 rfl rfl)
theorem dX8_posts_45 : decode cX8_posts 45 = .ok (.bipush 108, 2) := dk_16 108 (dk_at dksX8_posts_1 21 rfl rfl)
theorem dX8_posts_47 : decode cX8_posts 47 = .ok (.iconst 0, 1) := dk_3 (dk_at dksX8_posts_1 23 rfl rfl)
theorem dX8_posts_48 : decode cX8_posts 48 = .ok (.bipush 10, 2) := dk_16 10 (dk_at dksX8_posts_2 0 rfl rfl)
theorem dX8_posts_50 : decode cX8_posts 50 = .ok (.iconst 0, 1) := dk_3 (dk_at dksX8_posts_2 2 rfl rfl)
theorem dX8_posts_51 : decode cX8_posts 51 = .ok (.invokevirtual 260, 3) := dk_182 1 4 (dk_at dksX8_posts_2 3 rfl rfl)
theorem dX8_posts_54 : decode cX8_posts 54 = .ok (.if_icmp .lt 17, 3) := dk_161 0 17 (dk_at dksX8_posts_2 6 rfl rfl)
theorem dX8_posts_57 : decode cX8_posts 57 = .ok (.aload_n 0, 1) := dk_42 (dk_at dksX8_posts_2 9 rfl rfl)
theorem dX8_posts_58 : decode cX8_posts 58 = .ok (.getfield 7, 3) := dk_180 0 7 (dk_at dksX8_posts_2 10 rfl rfl)
theorem dX8_posts_61 : decode cX8_posts 61 = .ok (.sipush 11133, 3) := dk_17 43 125 (dk_at dksX8_posts_2 13 rfl rfl)
theorem dX8_posts_64 : decode cX8_posts 64 = .ok (.iaload, 1) := dk_46 (dk_at dksX8_posts_2 16 rfl rfl)
theorem dX8_posts_65 : decode cX8_posts 65 = .ok (.sipush 160, 3) := dk_17 0 160 (dk_at dksX8_posts_2 17 rfl rfl)
theorem dX8_posts_68 : decode cX8_posts 68 = .ok (.if_icmp .ne 8, 3) := dk_160 0 8 (dk_at dksX8_posts_2 20 rfl rfl)
theorem dX8_posts_71 : decode cX8_posts 71 = .ok (.aload_n 0, 1) := dk_42 (dk_at dksX8_posts_2 23 rfl rfl)
theorem dX8_posts_72 : decode cX8_posts 72 = .ok (.invokevirtual 268, 3) := dk_182 1 12 (dk_at dksX8_posts_3 0 rfl rfl)
theorem dX8_posts_75 : decode cX8_posts 75 = .ok (.return_, 1) := dk_177 (dk_at dksX8_posts_3 3 rfl rfl)
theorem dX8_posts_76 : decode cX8_posts 76 = .ok (.aload_n 0, 1) := dk_42 (dk_at dksX8_posts_3 4 rfl rfl)
theorem dX8_posts_77 : decode cX8_posts 77 = .ok (.getfield 19, 3) := dk_180 0 19 (dk_at dksX8_posts_3 5 rfl rfl)
theorem dX8_posts_80 : decode cX8_posts 80 = .ok (.iconst 4, 1) := dk_7 (dk_at dksX8_posts_3 8 rfl rfl)
theorem dX8_posts_81 : decode cX8_posts 81 = .ok (.aload_n 0, 1) := dk_42 (dk_at dksX8_posts_3 9 rfl rfl)
theorem dX8_posts_82 : decode cX8_posts 82 = .ok (.getfield 7, 3) := dk_180 0 7 (dk_at dksX8_posts_3 10 rfl rfl)
theorem dX8_posts_85 : decode cX8_posts 85 = .ok (.sipush 11131, 3) := dk_17 43 123 (dk_at dksX8_posts_3 13 rfl rfl)
theorem dX8_posts_88 : decode cX8_posts 88 = .ok (.iaload, 1) := dk_46 (dk_at dksX8_posts_3 16 rfl rfl)
theorem dX8_posts_89 : decode cX8_posts 89 = .ok (.iconst 1, 1) := dk_4 (dk_at dksX8_posts_3 17 rfl rfl)
theorem dX8_posts_90 : decode cX8_posts 90 = .ok (.iadd, 1) := dk_96 (dk_at dksX8_posts_3 18 rfl rfl)
theorem dX8_posts_91 : decode cX8_posts 91 = .ok (.iload_n 2, 1) := dk_28 (dk_at dksX8_posts_3 19 rfl rfl)
theorem dX8_posts_92 : decode cX8_posts 92 = .ok (.iadd, 1) := dk_96 (dk_at dksX8_posts_3 20 rfl rfl)
theorem dX8_posts_93 : decode cX8_posts 93 = .ok (.iastore, 1) := dk_79 (dk_at dksX8_posts_3 21 rfl rfl)
theorem dX8_posts_94 : decode cX8_posts 94 = .ok (.sipush 1708, 3) := dk_17 6 172 (dk_at dksX8_posts_4 0 rfl rfl)
theorem dX8_posts_97 : decode cX8_posts 97 = .ok (.bipush 27, 2) := dk_16 27 (dk_at dksX8_posts_4 3 rfl rfl)
theorem dX8_posts_99 : decode cX8_posts 99 = .ok (.aload_n 0, 1) := dk_42 (dk_at dksX8_posts_4 5 rfl rfl)
theorem dX8_posts_100 : decode cX8_posts 100 = .ok (.getfield 7, 3) := dk_180 0 7 (dk_at dksX8_posts_4 6 rfl rfl)
theorem dX8_posts_103 : decode cX8_posts 103 = .ok (.sipush 11133, 3) := dk_17 43 125 (dk_at dksX8_posts_4 9 rfl rfl)
theorem dX8_posts_106 : decode cX8_posts 106 = .ok (.iaload, 1) := dk_46 (dk_at dksX8_posts_4 12 rfl rfl)
theorem dX8_posts_107 : decode cX8_posts 107 = .ok (.imul, 1) := dk_104 (dk_at dksX8_posts_4 13 rfl rfl)
theorem dX8_posts_108 : decode cX8_posts 108 = .ok (.iadd, 1) := dk_96 (dk_at dksX8_posts_4 14 rfl rfl)
theorem dX8_posts_109 : decode cX8_posts 109 = .ok (.istore_n 3, 1) := dk_62 (dk_at dksX8_posts_4 15 rfl rfl)
theorem dX8_posts_110 : decode cX8_posts 110 = .ok (.iconst 0, 1) := dk_3 (dk_at dksX8_posts_4 16 rfl rfl)
theorem dX8_posts_111 : decode cX8_posts 111 = .ok (.istore 4, 2) := dk_54 4 (dk_at dksX8_posts_4 17 rfl rfl)
theorem dX8_posts_113 : decode cX8_posts 113 = .ok (.iload 4, 2) := dk_21 4 (dk_at dksX8_posts_4 19 rfl rfl)
theorem dX8_posts_115 : decode cX8_posts 115 = .ok (.bipush 27, 2) := dk_16 27 (dk_at dksX8_posts_4 21 rfl rfl)
theorem dX8_posts_117 : decode cX8_posts 117 = .ok (.if_icmp .ge 25, 3) := dk_162 0 25 (dk_at dksX8_posts_5 0 rfl rfl)
theorem dX8_posts_120 : decode cX8_posts 120 = .ok (.aload_n 0, 1) := dk_42 (dk_at dksX8_posts_5 3 rfl rfl)
theorem dX8_posts_121 : decode cX8_posts 121 = .ok (.getfield 7, 3) := dk_180 0 7 (dk_at dksX8_posts_5 4 rfl rfl)
theorem dX8_posts_124 : decode cX8_posts 124 = .ok (.iload_n 3, 1) := dk_29 (dk_at dksX8_posts_5 7 rfl rfl)
theorem dX8_posts_125 : decode cX8_posts 125 = .ok (.iload 4, 2) := dk_21 4 (dk_at dksX8_posts_5 8 rfl rfl)
theorem dX8_posts_127 : decode cX8_posts 127 = .ok (.iadd, 1) := dk_96 (dk_at dksX8_posts_5 10 rfl rfl)
theorem dX8_posts_128 : decode cX8_posts 128 = .ok (.aload_n 0, 1) := dk_42 (dk_at dksX8_posts_5 11 rfl rfl)
theorem dX8_posts_129 : decode cX8_posts 129 = .ok (.getfield 19, 3) := dk_180 0 19 (dk_at dksX8_posts_5 12 rfl rfl)
theorem dX8_posts_132 : decode cX8_posts 132 = .ok (.iload 4, 2) := dk_21 4 (dk_at dksX8_posts_5 15 rfl rfl)
theorem dX8_posts_134 : decode cX8_posts 134 = .ok (.iaload, 1) := dk_46 (dk_at dksX8_posts_5 17 rfl rfl)
theorem dX8_posts_135 : decode cX8_posts 135 = .ok (.iastore, 1) := dk_79 (dk_at dksX8_posts_5 18 rfl rfl)
theorem dX8_posts_136 : decode cX8_posts 136 = .ok (.iinc 4 1, 3) := dk_132 4 1 (dk_at dksX8_posts_5 19 rfl rfl)
theorem dX8_posts_139 : decode cX8_posts 139 = .ok (.goto (-26), 3) := dk_167 255 230 (dk_at dksX8_posts_6 0 rfl rfl)
theorem dX8_posts_142 : decode cX8_posts 142 = .ok (.aload_n 0, 1) := dk_42 (dk_at dksX8_posts_6 3 rfl rfl)
theorem dX8_posts_143 : decode cX8_posts 143 = .ok (.getfield 7, 3) := dk_180 0 7 (dk_at dksX8_posts_6 4 rfl rfl)
theorem dX8_posts_146 : decode cX8_posts 146 = .ok (.sipush 11133, 3) := dk_17 43 125 (dk_at dksX8_posts_6 7 rfl rfl)
theorem dX8_posts_149 : decode cX8_posts 149 = .ok (.aload_n 0, 1) := dk_42 (dk_at dksX8_posts_6 10 rfl rfl)
theorem dX8_posts_150 : decode cX8_posts 150 = .ok (.getfield 7, 3) := dk_180 0 7 (dk_at dksX8_posts_6 11 rfl rfl)
theorem dX8_posts_153 : decode cX8_posts 153 = .ok (.sipush 11133, 3) := dk_17 43 125 (dk_at dksX8_posts_6 14 rfl rfl)
theorem dX8_posts_156 : decode cX8_posts 156 = .ok (.iaload, 1) := dk_46 (dk_at dksX8_posts_6 17 rfl rfl)
theorem dX8_posts_157 : decode cX8_posts 157 = .ok (.iconst 1, 1) := dk_4 (dk_at dksX8_posts_6 18 rfl rfl)
theorem dX8_posts_158 : decode cX8_posts 158 = .ok (.iadd, 1) := dk_96 (dk_at dksX8_posts_6 19 rfl rfl)
theorem dX8_posts_159 : decode cX8_posts 159 = .ok (.iastore, 1) := dk_79 (dk_at dksX8_posts_6 20 rfl rfl)
theorem dX8_posts_160 : decode cX8_posts 160 = .ok (.return_, 1) := dk_177 (dk_at dksX8_posts_6 21 rfl rfl)
abbrev cX8_holdsAny : ByteArray := prog_18_method_54_code
def yX8_holdsAny : MethodName := ⟨RX8, "holdsAny", "(I)Z"⟩
def dkwX8_holdsAny_2 : List UInt8 := [167, 255, 213, 3, 172]
abbrev dktX8_holdsAny_2 : List UInt8 := dkwX8_holdsAny_2 ++ []
def dkwX8_holdsAny_1 : List UInt8 := [180, 0, 56, 28, 46, 42, 180, 0, 59, 28, 46, 182, 0, 253, 4, 160, 0, 5, 4, 172, 132, 2, 1]
abbrev dktX8_holdsAny_1 : List UInt8 := dkwX8_holdsAny_1 ++ dktX8_holdsAny_2
def dkwX8_holdsAny_0 : List UInt8 := [3, 61, 28, 42, 180, 0, 246, 162, 0, 41, 42, 180, 0, 50, 28, 46, 27, 160, 0, 25, 42, 42]
abbrev dktX8_holdsAny_0 : List UInt8 := dkwX8_holdsAny_0 ++ dktX8_holdsAny_1
theorem dksX8_holdsAny_0 : cX8_holdsAny.data.toList.drop 0 = dktX8_holdsAny_0 := by decide +kernel
theorem dksX8_holdsAny_1 : cX8_holdsAny.data.toList.drop 22 = dktX8_holdsAny_1 := dk_seg dksX8_holdsAny_0 22 rfl rfl
theorem dksX8_holdsAny_2 : cX8_holdsAny.data.toList.drop 45 = dktX8_holdsAny_2 := dk_seg dksX8_holdsAny_1 23 rfl rfl
theorem dX8_holdsAny_0 : decode cX8_holdsAny 0 = .ok (.iconst 0, 1) := dk_3 (dk_at dksX8_holdsAny_0 0 rfl rfl)
theorem dX8_holdsAny_1 : decode cX8_holdsAny 1 = .ok (.istore_n 2, 1) := dk_61 (dk_at dksX8_holdsAny_0 1 rfl rfl)
theorem dX8_holdsAny_2 : decode cX8_holdsAny 2 = .ok (.iload_n 2, 1) := dk_28 (dk_at dksX8_holdsAny_0 2 rfl rfl)
theorem dX8_holdsAny_3 : decode cX8_holdsAny 3 = .ok (.aload_n 0, 1) := dk_42 (dk_at dksX8_holdsAny_0 3 rfl rfl)
theorem dX8_holdsAny_4 : decode cX8_holdsAny 4 = .ok (.getfield 246, 3) := dk_180 0 246 (dk_at dksX8_holdsAny_0 4 rfl rfl)
theorem dX8_holdsAny_7 : decode cX8_holdsAny 7 = .ok (.if_icmp .ge 41, 3) := dk_162 0 41 (dk_at dksX8_holdsAny_0 7 rfl rfl)
theorem dX8_holdsAny_10 : decode cX8_holdsAny 10 = .ok (.aload_n 0, 1) := dk_42 (dk_at dksX8_holdsAny_0 10 rfl rfl)
theorem dX8_holdsAny_11 : decode cX8_holdsAny 11 = .ok (.getfield 50, 3) := dk_180 0 50 (dk_at dksX8_holdsAny_0 11 rfl rfl)
theorem dX8_holdsAny_14 : decode cX8_holdsAny 14 = .ok (.iload_n 2, 1) := dk_28 (dk_at dksX8_holdsAny_0 14 rfl rfl)
theorem dX8_holdsAny_15 : decode cX8_holdsAny 15 = .ok (.iaload, 1) := dk_46 (dk_at dksX8_holdsAny_0 15 rfl rfl)
theorem dX8_holdsAny_16 : decode cX8_holdsAny 16 = .ok (.iload_n 1, 1) := dk_27 (dk_at dksX8_holdsAny_0 16 rfl rfl)
theorem dX8_holdsAny_17 : decode cX8_holdsAny 17 = .ok (.if_icmp .ne 25, 3) := dk_160 0 25 (dk_at dksX8_holdsAny_0 17 rfl rfl)
theorem dX8_holdsAny_20 : decode cX8_holdsAny 20 = .ok (.aload_n 0, 1) := dk_42 (dk_at dksX8_holdsAny_0 20 rfl rfl)
theorem dX8_holdsAny_21 : decode cX8_holdsAny 21 = .ok (.aload_n 0, 1) := dk_42 (dk_at dksX8_holdsAny_0 21 rfl rfl)
theorem dX8_holdsAny_22 : decode cX8_holdsAny 22 = .ok (.getfield 56, 3) := dk_180 0 56 (dk_at dksX8_holdsAny_1 0 rfl rfl)
theorem dX8_holdsAny_25 : decode cX8_holdsAny 25 = .ok (.iload_n 2, 1) := dk_28 (dk_at dksX8_holdsAny_1 3 rfl rfl)
theorem dX8_holdsAny_26 : decode cX8_holdsAny 26 = .ok (.iaload, 1) := dk_46 (dk_at dksX8_holdsAny_1 4 rfl rfl)
theorem dX8_holdsAny_27 : decode cX8_holdsAny 27 = .ok (.aload_n 0, 1) := dk_42 (dk_at dksX8_holdsAny_1 5 rfl rfl)
theorem dX8_holdsAny_28 : decode cX8_holdsAny 28 = .ok (.getfield 59, 3) := dk_180 0 59 (dk_at dksX8_holdsAny_1 6 rfl rfl)
theorem dX8_holdsAny_31 : decode cX8_holdsAny 31 = .ok (.iload_n 2, 1) := dk_28 (dk_at dksX8_holdsAny_1 9 rfl rfl)
theorem dX8_holdsAny_32 : decode cX8_holdsAny 32 = .ok (.iaload, 1) := dk_46 (dk_at dksX8_holdsAny_1 10 rfl rfl)
theorem dX8_holdsAny_33 : decode cX8_holdsAny 33 = .ok (.invokevirtual 253, 3) := dk_182 0 253 (dk_at dksX8_holdsAny_1 11 rfl rfl)
theorem dX8_holdsAny_36 : decode cX8_holdsAny 36 = .ok (.iconst 1, 1) := dk_4 (dk_at dksX8_holdsAny_1 14 rfl rfl)
theorem dX8_holdsAny_37 : decode cX8_holdsAny 37 = .ok (.if_icmp .ne 5, 3) := dk_160 0 5 (dk_at dksX8_holdsAny_1 15 rfl rfl)
theorem dX8_holdsAny_40 : decode cX8_holdsAny 40 = .ok (.iconst 1, 1) := dk_4 (dk_at dksX8_holdsAny_1 18 rfl rfl)
theorem dX8_holdsAny_41 : decode cX8_holdsAny 41 = .ok (.ireturn, 1) := dk_172 (dk_at dksX8_holdsAny_1 19 rfl rfl)
theorem dX8_holdsAny_42 : decode cX8_holdsAny 42 = .ok (.iinc 2 1, 3) := dk_132 2 1 (dk_at dksX8_holdsAny_1 20 rfl rfl)
theorem dX8_holdsAny_45 : decode cX8_holdsAny 45 = .ok (.goto (-43), 3) := dk_167 255 213 (dk_at dksX8_holdsAny_2 0 rfl rfl)
theorem dX8_holdsAny_48 : decode cX8_holdsAny 48 = .ok (.iconst 0, 1) := dk_3 (dk_at dksX8_holdsAny_2 3 rfl rfl)
theorem dX8_holdsAny_49 : decode cX8_holdsAny 49 = .ok (.ireturn, 1) := dk_172 (dk_at dksX8_holdsAny_2 4 rfl rfl)
abbrev cX8_hasVote : ByteArray := prog_18_method_83_code
def yX8_hasVote : MethodName := ⟨RX8, "hasVote", "(I)V"⟩
def dkwX8_hasVote_3 : List UInt8 := [182, 1, 42, 153, 0, 8, 42, 27, 182, 1, 45, 177]
abbrev dktX8_hasVote_3 : List UInt8 := dkwX8_hasVote_3 ++ []
def dkwX8_hasVote_2 : List UInt8 := [182, 0, 101, 4, 42, 180, 0, 22, 3, 46, 120, 128, 182, 0, 133, 42, 27, 42, 27, 16, 12, 182, 0, 101]
abbrev dktX8_hasVote_2 : List UInt8 := dkwX8_hasVote_2 ++ dktX8_hasVote_3
def dkwX8_hasVote_1 : List UInt8 := [160, 0, 14, 42, 180, 0, 22, 16, 6, 46, 4, 159, 0, 4, 177, 42, 27, 16, 12, 42, 27, 16, 12]
abbrev dktX8_hasVote_1 : List UInt8 := dkwX8_hasVote_1 ++ dktX8_hasVote_2
def dkwX8_hasVote_0 : List UInt8 := [42, 27, 6, 182, 0, 101, 4, 160, 0, 29, 42, 180, 0, 22, 6, 46, 42, 27, 4, 182, 0, 101]
abbrev dktX8_hasVote_0 : List UInt8 := dkwX8_hasVote_0 ++ dktX8_hasVote_1
theorem dksX8_hasVote_0 : cX8_hasVote.data.toList.drop 0 = dktX8_hasVote_0 := by decide +kernel
theorem dksX8_hasVote_1 : cX8_hasVote.data.toList.drop 22 = dktX8_hasVote_1 := dk_seg dksX8_hasVote_0 22 rfl rfl
theorem dksX8_hasVote_2 : cX8_hasVote.data.toList.drop 45 = dktX8_hasVote_2 := dk_seg dksX8_hasVote_1 23 rfl rfl
theorem dksX8_hasVote_3 : cX8_hasVote.data.toList.drop 69 = dktX8_hasVote_3 := dk_seg dksX8_hasVote_2 24 rfl rfl
theorem dX8_hasVote_0 : decode cX8_hasVote 0 = .ok (.aload_n 0, 1) := dk_42 (dk_at dksX8_hasVote_0 0 rfl rfl)
theorem dX8_hasVote_1 : decode cX8_hasVote 1 = .ok (.iload_n 1, 1) := dk_27 (dk_at dksX8_hasVote_0 1 rfl rfl)
theorem dX8_hasVote_2 : decode cX8_hasVote 2 = .ok (.iconst 3, 1) := dk_6 (dk_at dksX8_hasVote_0 2 rfl rfl)
theorem dX8_hasVote_3 : decode cX8_hasVote 3 = .ok (.invokevirtual 101, 3) := dk_182 0 101 (dk_at dksX8_hasVote_0 3 rfl rfl)
theorem dX8_hasVote_6 : decode cX8_hasVote 6 = .ok (.iconst 1, 1) := dk_4 (dk_at dksX8_hasVote_0 6 rfl rfl)
theorem dX8_hasVote_7 : decode cX8_hasVote 7 = .ok (.if_icmp .ne 29, 3) := dk_160 0 29 (dk_at dksX8_hasVote_0 7 rfl rfl)
theorem dX8_hasVote_10 : decode cX8_hasVote 10 = .ok (.aload_n 0, 1) := dk_42 (dk_at dksX8_hasVote_0 10 rfl rfl)
theorem dX8_hasVote_11 : decode cX8_hasVote 11 = .ok (.getfield 22, 3) := dk_180 0 22 (dk_at dksX8_hasVote_0 11 rfl rfl)
theorem dX8_hasVote_14 : decode cX8_hasVote 14 = .ok (.iconst 3, 1) := dk_6 (dk_at dksX8_hasVote_0 14 rfl rfl)
theorem dX8_hasVote_15 : decode cX8_hasVote 15 = .ok (.iaload, 1) := dk_46 (dk_at dksX8_hasVote_0 15 rfl rfl)
theorem dX8_hasVote_16 : decode cX8_hasVote 16 = .ok (.aload_n 0, 1) := dk_42 (dk_at dksX8_hasVote_0 16 rfl rfl)
theorem dX8_hasVote_17 : decode cX8_hasVote 17 = .ok (.iload_n 1, 1) := dk_27 (dk_at dksX8_hasVote_0 17 rfl rfl)
theorem dX8_hasVote_18 : decode cX8_hasVote 18 = .ok (.iconst 1, 1) := dk_4 (dk_at dksX8_hasVote_0 18 rfl rfl)
theorem dX8_hasVote_19 : decode cX8_hasVote 19 = .ok (.invokevirtual 101, 3) := dk_182 0 101 (dk_at dksX8_hasVote_0 19 rfl rfl)
theorem dX8_hasVote_22 : decode cX8_hasVote 22 = .ok (.if_icmp .ne 14, 3) := dk_160 0 14 (dk_at dksX8_hasVote_1 0 rfl rfl)
theorem dX8_hasVote_25 : decode cX8_hasVote 25 = .ok (.aload_n 0, 1) := dk_42 (dk_at dksX8_hasVote_1 3 rfl rfl)
theorem dX8_hasVote_26 : decode cX8_hasVote 26 = .ok (.getfield 22, 3) := dk_180 0 22 (dk_at dksX8_hasVote_1 4 rfl rfl)
theorem dX8_hasVote_29 : decode cX8_hasVote 29 = .ok (.bipush 6, 2) := dk_16 6 (dk_at dksX8_hasVote_1 7 rfl rfl)
theorem dX8_hasVote_31 : decode cX8_hasVote 31 = .ok (.iaload, 1) := dk_46 (dk_at dksX8_hasVote_1 9 rfl rfl)
theorem dX8_hasVote_32 : decode cX8_hasVote 32 = .ok (.iconst 1, 1) := dk_4 (dk_at dksX8_hasVote_1 10 rfl rfl)
theorem dX8_hasVote_33 : decode cX8_hasVote 33 = .ok (.if_icmp .eq 4, 3) := dk_159 0 4 (dk_at dksX8_hasVote_1 11 rfl rfl)
theorem dX8_hasVote_36 : decode cX8_hasVote 36 = .ok (.return_, 1) := dk_177 (dk_at dksX8_hasVote_1 14 rfl rfl)
theorem dX8_hasVote_37 : decode cX8_hasVote 37 = .ok (.aload_n 0, 1) := dk_42 (dk_at dksX8_hasVote_1 15 rfl rfl)
theorem dX8_hasVote_38 : decode cX8_hasVote 38 = .ok (.iload_n 1, 1) := dk_27 (dk_at dksX8_hasVote_1 16 rfl rfl)
theorem dX8_hasVote_39 : decode cX8_hasVote 39 = .ok (.bipush 12, 2) := dk_16 12 (dk_at dksX8_hasVote_1 17 rfl rfl)
theorem dX8_hasVote_41 : decode cX8_hasVote 41 = .ok (.aload_n 0, 1) := dk_42 (dk_at dksX8_hasVote_1 19 rfl rfl)
theorem dX8_hasVote_42 : decode cX8_hasVote 42 = .ok (.iload_n 1, 1) := dk_27 (dk_at dksX8_hasVote_1 20 rfl rfl)
theorem dX8_hasVote_43 : decode cX8_hasVote 43 = .ok (.bipush 12, 2) := dk_16 12 (dk_at dksX8_hasVote_1 21 rfl rfl)
theorem dX8_hasVote_45 : decode cX8_hasVote 45 = .ok (.invokevirtual 101, 3) := dk_182 0 101 (dk_at dksX8_hasVote_2 0 rfl rfl)
theorem dX8_hasVote_48 : decode cX8_hasVote 48 = .ok (.iconst 1, 1) := dk_4 (dk_at dksX8_hasVote_2 3 rfl rfl)
theorem dX8_hasVote_49 : decode cX8_hasVote 49 = .ok (.aload_n 0, 1) := dk_42 (dk_at dksX8_hasVote_2 4 rfl rfl)
theorem dX8_hasVote_50 : decode cX8_hasVote 50 = .ok (.getfield 22, 3) := dk_180 0 22 (dk_at dksX8_hasVote_2 5 rfl rfl)
theorem dX8_hasVote_53 : decode cX8_hasVote 53 = .ok (.iconst 0, 1) := dk_3 (dk_at dksX8_hasVote_2 8 rfl rfl)
theorem dX8_hasVote_54 : decode cX8_hasVote 54 = .ok (.iaload, 1) := dk_46 (dk_at dksX8_hasVote_2 9 rfl rfl)
theorem dX8_hasVote_55 : decode cX8_hasVote 55 = .ok (.ishl, 1) := dk_120 (dk_at dksX8_hasVote_2 10 rfl rfl)
theorem dX8_hasVote_56 : decode cX8_hasVote 56 = .ok (.ior, 1) := dk_128 (dk_at dksX8_hasVote_2 11 rfl rfl)
theorem dX8_hasVote_57 : decode cX8_hasVote 57 = .ok (.invokevirtual 133, 3) := dk_182 0 133 (dk_at dksX8_hasVote_2 12 rfl rfl)
theorem dX8_hasVote_60 : decode cX8_hasVote 60 = .ok (.aload_n 0, 1) := dk_42 (dk_at dksX8_hasVote_2 15 rfl rfl)
theorem dX8_hasVote_61 : decode cX8_hasVote 61 = .ok (.iload_n 1, 1) := dk_27 (dk_at dksX8_hasVote_2 16 rfl rfl)
theorem dX8_hasVote_62 : decode cX8_hasVote 62 = .ok (.aload_n 0, 1) := dk_42 (dk_at dksX8_hasVote_2 17 rfl rfl)
theorem dX8_hasVote_63 : decode cX8_hasVote 63 = .ok (.iload_n 1, 1) := dk_27 (dk_at dksX8_hasVote_2 18 rfl rfl)
theorem dX8_hasVote_64 : decode cX8_hasVote 64 = .ok (.bipush 12, 2) := dk_16 12 (dk_at dksX8_hasVote_2 19 rfl rfl)
theorem dX8_hasVote_66 : decode cX8_hasVote 66 = .ok (.invokevirtual 101, 3) := dk_182 0 101 (dk_at dksX8_hasVote_2 21 rfl rfl)
theorem dX8_hasVote_69 : decode cX8_hasVote 69 = .ok (.invokevirtual 298, 3) := dk_182 1 42 (dk_at dksX8_hasVote_3 0 rfl rfl)
theorem dX8_hasVote_72 : decode cX8_hasVote 72 = .ok (.ifCond .eq 8, 3) := dk_153 0 8 (dk_at dksX8_hasVote_3 3 rfl rfl)
theorem dX8_hasVote_75 : decode cX8_hasVote 75 = .ok (.aload_n 0, 1) := dk_42 (dk_at dksX8_hasVote_3 6 rfl rfl)
theorem dX8_hasVote_76 : decode cX8_hasVote 76 = .ok (.iload_n 1, 1) := dk_27 (dk_at dksX8_hasVote_3 7 rfl rfl)
theorem dX8_hasVote_77 : decode cX8_hasVote 77 = .ok (.invokevirtual 301, 3) := dk_182 1 45 (dk_at dksX8_hasVote_3 8 rfl rfl)
theorem dX8_hasVote_80 : decode cX8_hasVote 80 = .ok (.return_, 1) := dk_177 (dk_at dksX8_hasVote_3 11 rfl rfl)
abbrev cX8_isMost : ByteArray := prog_18_method_22_code
def yX8_isMost : MethodName := ⟨RX8, "isMost", "(II)Z"⟩
def dkwX8_isMost_2 : List UInt8 := [184, 0, 127, 164, 0, 7, 4, 167, 0, 4, 3, 172]
abbrev dktX8_isMost_2 : List UInt8 := dkwX8_isMost_2 ++ []
def dkwX8_isMost_1 : List UInt8 := [184, 0, 127, 164, 0, 29, 21, 4, 153, 0, 20, 5, 28, 21, 4, 126, 184, 0, 127, 104, 21, 4]
abbrev dktX8_isMost_1 : List UInt8 := dkwX8_isMost_1 ++ dktX8_isMost_2
def dkwX8_isMost_0 : List UInt8 := [42, 27, 182, 0, 121, 62, 42, 27, 182, 0, 124, 54, 4, 5, 28, 29, 126, 184, 0, 127, 104, 29]
abbrev dktX8_isMost_0 : List UInt8 := dkwX8_isMost_0 ++ dktX8_isMost_1
theorem dksX8_isMost_0 : cX8_isMost.data.toList.drop 0 = dktX8_isMost_0 := by decide +kernel
theorem dksX8_isMost_1 : cX8_isMost.data.toList.drop 22 = dktX8_isMost_1 := dk_seg dksX8_isMost_0 22 rfl rfl
theorem dksX8_isMost_2 : cX8_isMost.data.toList.drop 44 = dktX8_isMost_2 := dk_seg dksX8_isMost_1 22 rfl rfl
theorem dX8_isMost_0 : decode cX8_isMost 0 = .ok (.aload_n 0, 1) := dk_42 (dk_at dksX8_isMost_0 0 rfl rfl)
theorem dX8_isMost_1 : decode cX8_isMost 1 = .ok (.iload_n 1, 1) := dk_27 (dk_at dksX8_isMost_0 1 rfl rfl)
theorem dX8_isMost_2 : decode cX8_isMost 2 = .ok (.invokevirtual 121, 3) := dk_182 0 121 (dk_at dksX8_isMost_0 2 rfl rfl)
theorem dX8_isMost_5 : decode cX8_isMost 5 = .ok (.istore_n 3, 1) := dk_62 (dk_at dksX8_isMost_0 5 rfl rfl)
theorem dX8_isMost_6 : decode cX8_isMost 6 = .ok (.aload_n 0, 1) := dk_42 (dk_at dksX8_isMost_0 6 rfl rfl)
theorem dX8_isMost_7 : decode cX8_isMost 7 = .ok (.iload_n 1, 1) := dk_27 (dk_at dksX8_isMost_0 7 rfl rfl)
theorem dX8_isMost_8 : decode cX8_isMost 8 = .ok (.invokevirtual 124, 3) := dk_182 0 124 (dk_at dksX8_isMost_0 8 rfl rfl)
theorem dX8_isMost_11 : decode cX8_isMost 11 = .ok (.istore 4, 2) := dk_54 4 (dk_at dksX8_isMost_0 11 rfl rfl)
theorem dX8_isMost_13 : decode cX8_isMost 13 = .ok (.iconst 2, 1) := dk_5 (dk_at dksX8_isMost_0 13 rfl rfl)
theorem dX8_isMost_14 : decode cX8_isMost 14 = .ok (.iload_n 2, 1) := dk_28 (dk_at dksX8_isMost_0 14 rfl rfl)
theorem dX8_isMost_15 : decode cX8_isMost 15 = .ok (.iload_n 3, 1) := dk_29 (dk_at dksX8_isMost_0 15 rfl rfl)
theorem dX8_isMost_16 : decode cX8_isMost 16 = .ok (.iand, 1) := dk_126 (dk_at dksX8_isMost_0 16 rfl rfl)
theorem dX8_isMost_17 : decode cX8_isMost 17 = .ok (.invokestatic 127, 3) := dk_184 0 127 (dk_at dksX8_isMost_0 17 rfl rfl)
theorem dX8_isMost_20 : decode cX8_isMost 20 = .ok (.imul, 1) := dk_104 (dk_at dksX8_isMost_0 20 rfl rfl)
theorem dX8_isMost_21 : decode cX8_isMost 21 = .ok (.iload_n 3, 1) := dk_29 (dk_at dksX8_isMost_0 21 rfl rfl)
theorem dX8_isMost_22 : decode cX8_isMost 22 = .ok (.invokestatic 127, 3) := dk_184 0 127 (dk_at dksX8_isMost_1 0 rfl rfl)
theorem dX8_isMost_25 : decode cX8_isMost 25 = .ok (.if_icmp .le 29, 3) := dk_164 0 29 (dk_at dksX8_isMost_1 3 rfl rfl)
theorem dX8_isMost_28 : decode cX8_isMost 28 = .ok (.iload 4, 2) := dk_21 4 (dk_at dksX8_isMost_1 6 rfl rfl)
theorem dX8_isMost_30 : decode cX8_isMost 30 = .ok (.ifCond .eq 20, 3) := dk_153 0 20 (dk_at dksX8_isMost_1 8 rfl rfl)
theorem dX8_isMost_33 : decode cX8_isMost 33 = .ok (.iconst 2, 1) := dk_5 (dk_at dksX8_isMost_1 11 rfl rfl)
theorem dX8_isMost_34 : decode cX8_isMost 34 = .ok (.iload_n 2, 1) := dk_28 (dk_at dksX8_isMost_1 12 rfl rfl)
theorem dX8_isMost_35 : decode cX8_isMost 35 = .ok (.iload 4, 2) := dk_21 4 (dk_at dksX8_isMost_1 13 rfl rfl)
theorem dX8_isMost_37 : decode cX8_isMost 37 = .ok (.iand, 1) := dk_126 (dk_at dksX8_isMost_1 15 rfl rfl)
theorem dX8_isMost_38 : decode cX8_isMost 38 = .ok (.invokestatic 127, 3) := dk_184 0 127 (dk_at dksX8_isMost_1 16 rfl rfl)
theorem dX8_isMost_41 : decode cX8_isMost 41 = .ok (.imul, 1) := dk_104 (dk_at dksX8_isMost_1 19 rfl rfl)
theorem dX8_isMost_42 : decode cX8_isMost 42 = .ok (.iload 4, 2) := dk_21 4 (dk_at dksX8_isMost_1 20 rfl rfl)
theorem dX8_isMost_44 : decode cX8_isMost 44 = .ok (.invokestatic 127, 3) := dk_184 0 127 (dk_at dksX8_isMost_2 0 rfl rfl)
theorem dX8_isMost_47 : decode cX8_isMost 47 = .ok (.if_icmp .le 7, 3) := dk_164 0 7 (dk_at dksX8_isMost_2 3 rfl rfl)
theorem dX8_isMost_50 : decode cX8_isMost 50 = .ok (.iconst 1, 1) := dk_4 (dk_at dksX8_isMost_2 6 rfl rfl)
theorem dX8_isMost_51 : decode cX8_isMost 51 = .ok (.goto 4, 3) := dk_167 0 4 (dk_at dksX8_isMost_2 7 rfl rfl)
theorem dX8_isMost_54 : decode cX8_isMost 54 = .ok (.iconst 0, 1) := dk_3 (dk_at dksX8_isMost_2 10 rfl rfl)
theorem dX8_isMost_55 : decode cX8_isMost 55 = .ok (.ireturn, 1) := dk_172 (dk_at dksX8_isMost_2 11 rfl rfl)
abbrev cX8_oldOf : ByteArray := prog_18_method_18_code
def yX8_oldOf : MethodName := ⟨RX8, "oldOf", "(I)I"⟩
def dkwX8_oldOf_1 : List UInt8 := [42, 180, 0, 7, 42, 27, 28, 182, 0, 112, 5, 96, 46, 172]
abbrev dktX8_oldOf_1 : List UInt8 := dkwX8_oldOf_1 ++ []
def dkwX8_oldOf_0 : List UInt8 := [42, 27, 17, 3, 231, 182, 0, 118, 61, 28, 2, 160, 0, 13, 42, 27, 16, 6, 182, 0, 101, 167, 0, 16]
abbrev dktX8_oldOf_0 : List UInt8 := dkwX8_oldOf_0 ++ dktX8_oldOf_1
theorem dksX8_oldOf_0 : cX8_oldOf.data.toList.drop 0 = dktX8_oldOf_0 := by decide +kernel
theorem dksX8_oldOf_1 : cX8_oldOf.data.toList.drop 24 = dktX8_oldOf_1 := dk_seg dksX8_oldOf_0 24 rfl rfl
theorem dX8_oldOf_0 : decode cX8_oldOf 0 = .ok (.aload_n 0, 1) := dk_42 (dk_at dksX8_oldOf_0 0 rfl rfl)
theorem dX8_oldOf_1 : decode cX8_oldOf 1 = .ok (.iload_n 1, 1) := dk_27 (dk_at dksX8_oldOf_0 1 rfl rfl)
theorem dX8_oldOf_2 : decode cX8_oldOf 2 = .ok (.sipush 999, 3) := dk_17 3 231 (dk_at dksX8_oldOf_0 2 rfl rfl)
theorem dX8_oldOf_5 : decode cX8_oldOf 5 = .ok (.invokevirtual 118, 3) := dk_182 0 118 (dk_at dksX8_oldOf_0 5 rfl rfl)
theorem dX8_oldOf_8 : decode cX8_oldOf 8 = .ok (.istore_n 2, 1) := dk_61 (dk_at dksX8_oldOf_0 8 rfl rfl)
theorem dX8_oldOf_9 : decode cX8_oldOf 9 = .ok (.iload_n 2, 1) := dk_28 (dk_at dksX8_oldOf_0 9 rfl rfl)
theorem dX8_oldOf_10 : decode cX8_oldOf 10 = .ok (.iconst (-1), 1) := dk_2 (dk_at dksX8_oldOf_0 10 rfl rfl)
theorem dX8_oldOf_11 : decode cX8_oldOf 11 = .ok (.if_icmp .ne 13, 3) := dk_160 0 13 (dk_at dksX8_oldOf_0 11 rfl rfl)
theorem dX8_oldOf_14 : decode cX8_oldOf 14 = .ok (.aload_n 0, 1) := dk_42 (dk_at dksX8_oldOf_0 14 rfl rfl)
theorem dX8_oldOf_15 : decode cX8_oldOf 15 = .ok (.iload_n 1, 1) := dk_27 (dk_at dksX8_oldOf_0 15 rfl rfl)
theorem dX8_oldOf_16 : decode cX8_oldOf 16 = .ok (.bipush 6, 2) := dk_16 6 (dk_at dksX8_oldOf_0 16 rfl rfl)
theorem dX8_oldOf_18 : decode cX8_oldOf 18 = .ok (.invokevirtual 101, 3) := dk_182 0 101 (dk_at dksX8_oldOf_0 18 rfl rfl)
theorem dX8_oldOf_21 : decode cX8_oldOf 21 = .ok (.goto 16, 3) := dk_167 0 16 (dk_at dksX8_oldOf_0 21 rfl rfl)
theorem dX8_oldOf_24 : decode cX8_oldOf 24 = .ok (.aload_n 0, 1) := dk_42 (dk_at dksX8_oldOf_1 0 rfl rfl)
theorem dX8_oldOf_25 : decode cX8_oldOf 25 = .ok (.getfield 7, 3) := dk_180 0 7 (dk_at dksX8_oldOf_1 1 rfl rfl)
theorem dX8_oldOf_28 : decode cX8_oldOf 28 = .ok (.aload_n 0, 1) := dk_42 (dk_at dksX8_oldOf_1 4 rfl rfl)
theorem dX8_oldOf_29 : decode cX8_oldOf 29 = .ok (.iload_n 1, 1) := dk_27 (dk_at dksX8_oldOf_1 5 rfl rfl)
theorem dX8_oldOf_30 : decode cX8_oldOf 30 = .ok (.iload_n 2, 1) := dk_28 (dk_at dksX8_oldOf_1 6 rfl rfl)
theorem dX8_oldOf_31 : decode cX8_oldOf 31 = .ok (.invokevirtual 112, 3) := dk_182 0 112 (dk_at dksX8_oldOf_1 7 rfl rfl)
theorem dX8_oldOf_34 : decode cX8_oldOf 34 = .ok (.iconst 2, 1) := dk_5 (dk_at dksX8_oldOf_1 10 rfl rfl)
theorem dX8_oldOf_35 : decode cX8_oldOf 35 = .ok (.iadd, 1) := dk_96 (dk_at dksX8_oldOf_1 11 rfl rfl)
theorem dX8_oldOf_36 : decode cX8_oldOf 36 = .ok (.iaload, 1) := dk_46 (dk_at dksX8_oldOf_1 12 rfl rfl)
theorem dX8_oldOf_37 : decode cX8_oldOf 37 = .ok (.ireturn, 1) := dk_172 (dk_at dksX8_oldOf_1 13 rfl rfl)
abbrev cX8_configAt : ByteArray := prog_18_method_17_code
def yX8_configAt : MethodName := ⟨RX8, "configAt", "(II)I"⟩
def dkwX8_configAt_1 : List UInt8 := [42, 27, 29, 182, 0, 112, 4, 96, 46, 4, 160, 0, 5, 29, 172, 132, 3, 255, 167, 255, 224, 2, 172]
abbrev dktX8_configAt_1 : List UInt8 := dkwX8_configAt_1 ++ []
def dkwX8_configAt_0 : List UInt8 := [28, 42, 27, 182, 0, 108, 184, 0, 115, 62, 29, 42, 27, 7, 182, 0, 101, 164, 0, 28, 42, 180, 0, 7]
abbrev dktX8_configAt_0 : List UInt8 := dkwX8_configAt_0 ++ dktX8_configAt_1
theorem dksX8_configAt_0 : cX8_configAt.data.toList.drop 0 = dktX8_configAt_0 := by decide +kernel
theorem dksX8_configAt_1 : cX8_configAt.data.toList.drop 24 = dktX8_configAt_1 := dk_seg dksX8_configAt_0 24 rfl rfl
theorem dX8_configAt_0 : decode cX8_configAt 0 = .ok (.iload_n 2, 1) := dk_28 (dk_at dksX8_configAt_0 0 rfl rfl)
theorem dX8_configAt_1 : decode cX8_configAt 1 = .ok (.aload_n 0, 1) := dk_42 (dk_at dksX8_configAt_0 1 rfl rfl)
theorem dX8_configAt_2 : decode cX8_configAt 2 = .ok (.iload_n 1, 1) := dk_27 (dk_at dksX8_configAt_0 2 rfl rfl)
theorem dX8_configAt_3 : decode cX8_configAt 3 = .ok (.invokevirtual 108, 3) := dk_182 0 108 (dk_at dksX8_configAt_0 3 rfl rfl)
theorem dX8_configAt_6 : decode cX8_configAt 6 = .ok (.invokestatic 115, 3) := dk_184 0 115 (dk_at dksX8_configAt_0 6 rfl rfl)
theorem dX8_configAt_9 : decode cX8_configAt 9 = .ok (.istore_n 3, 1) := dk_62 (dk_at dksX8_configAt_0 9 rfl rfl)
theorem dX8_configAt_10 : decode cX8_configAt 10 = .ok (.iload_n 3, 1) := dk_29 (dk_at dksX8_configAt_0 10 rfl rfl)
theorem dX8_configAt_11 : decode cX8_configAt 11 = .ok (.aload_n 0, 1) := dk_42 (dk_at dksX8_configAt_0 11 rfl rfl)
theorem dX8_configAt_12 : decode cX8_configAt 12 = .ok (.iload_n 1, 1) := dk_27 (dk_at dksX8_configAt_0 12 rfl rfl)
theorem dX8_configAt_13 : decode cX8_configAt 13 = .ok (.iconst 4, 1) := dk_7 (dk_at dksX8_configAt_0 13 rfl rfl)
theorem dX8_configAt_14 : decode cX8_configAt 14 = .ok (.invokevirtual 101, 3) := dk_182 0 101 (dk_at dksX8_configAt_0 14 rfl rfl)
theorem dX8_configAt_17 : decode cX8_configAt 17 = .ok (.if_icmp .le 28, 3) := dk_164 0 28 (dk_at dksX8_configAt_0 17 rfl rfl)
theorem dX8_configAt_20 : decode cX8_configAt 20 = .ok (.aload_n 0, 1) := dk_42 (dk_at dksX8_configAt_0 20 rfl rfl)
theorem dX8_configAt_21 : decode cX8_configAt 21 = .ok (.getfield 7, 3) := dk_180 0 7 (dk_at dksX8_configAt_0 21 rfl rfl)
theorem dX8_configAt_24 : decode cX8_configAt 24 = .ok (.aload_n 0, 1) := dk_42 (dk_at dksX8_configAt_1 0 rfl rfl)
theorem dX8_configAt_25 : decode cX8_configAt 25 = .ok (.iload_n 1, 1) := dk_27 (dk_at dksX8_configAt_1 1 rfl rfl)
theorem dX8_configAt_26 : decode cX8_configAt 26 = .ok (.iload_n 3, 1) := dk_29 (dk_at dksX8_configAt_1 2 rfl rfl)
theorem dX8_configAt_27 : decode cX8_configAt 27 = .ok (.invokevirtual 112, 3) := dk_182 0 112 (dk_at dksX8_configAt_1 3 rfl rfl)
theorem dX8_configAt_30 : decode cX8_configAt 30 = .ok (.iconst 1, 1) := dk_4 (dk_at dksX8_configAt_1 6 rfl rfl)
theorem dX8_configAt_31 : decode cX8_configAt 31 = .ok (.iadd, 1) := dk_96 (dk_at dksX8_configAt_1 7 rfl rfl)
theorem dX8_configAt_32 : decode cX8_configAt 32 = .ok (.iaload, 1) := dk_46 (dk_at dksX8_configAt_1 8 rfl rfl)
theorem dX8_configAt_33 : decode cX8_configAt 33 = .ok (.iconst 1, 1) := dk_4 (dk_at dksX8_configAt_1 9 rfl rfl)
theorem dX8_configAt_34 : decode cX8_configAt 34 = .ok (.if_icmp .ne 5, 3) := dk_160 0 5 (dk_at dksX8_configAt_1 10 rfl rfl)
theorem dX8_configAt_37 : decode cX8_configAt 37 = .ok (.iload_n 3, 1) := dk_29 (dk_at dksX8_configAt_1 13 rfl rfl)
theorem dX8_configAt_38 : decode cX8_configAt 38 = .ok (.ireturn, 1) := dk_172 (dk_at dksX8_configAt_1 14 rfl rfl)
theorem dX8_configAt_39 : decode cX8_configAt 39 = .ok (.iinc 3 (-1), 3) := dk_132 3 255 (dk_at dksX8_configAt_1 15 rfl rfl)
theorem dX8_configAt_42 : decode cX8_configAt 42 = .ok (.goto (-32), 3) := dk_167 255 224 (dk_at dksX8_configAt_1 18 rfl rfl)
theorem dX8_configAt_45 : decode cX8_configAt 45 = .ok (.iconst (-1), 1) := dk_2 (dk_at dksX8_configAt_1 21 rfl rfl)
theorem dX8_configAt_46 : decode cX8_configAt 46 = .ok (.ireturn, 1) := dk_172 (dk_at dksX8_configAt_1 22 rfl rfl)
abbrev cX8_newOf : ByteArray := prog_18_method_19_code
def yX8_newOf : MethodName := ⟨RX8, "newOf", "(I)I"⟩
def dkwX8_newOf_1 : List UInt8 := [42, 180, 0, 7, 42, 27, 28, 182, 0, 112, 6, 96, 46, 172]
abbrev dktX8_newOf_1 : List UInt8 := dkwX8_newOf_1 ++ []
def dkwX8_newOf_0 : List UInt8 := [42, 27, 17, 3, 231, 182, 0, 118, 61, 28, 2, 160, 0, 13, 42, 27, 16, 7, 182, 0, 101, 167, 0, 16]
abbrev dktX8_newOf_0 : List UInt8 := dkwX8_newOf_0 ++ dktX8_newOf_1
theorem dksX8_newOf_0 : cX8_newOf.data.toList.drop 0 = dktX8_newOf_0 := by decide +kernel
theorem dksX8_newOf_1 : cX8_newOf.data.toList.drop 24 = dktX8_newOf_1 := dk_seg dksX8_newOf_0 24 rfl rfl
theorem dX8_newOf_0 : decode cX8_newOf 0 = .ok (.aload_n 0, 1) := dk_42 (dk_at dksX8_newOf_0 0 rfl rfl)
theorem dX8_newOf_1 : decode cX8_newOf 1 = .ok (.iload_n 1, 1) := dk_27 (dk_at dksX8_newOf_0 1 rfl rfl)
theorem dX8_newOf_2 : decode cX8_newOf 2 = .ok (.sipush 999, 3) := dk_17 3 231 (dk_at dksX8_newOf_0 2 rfl rfl)
theorem dX8_newOf_5 : decode cX8_newOf 5 = .ok (.invokevirtual 118, 3) := dk_182 0 118 (dk_at dksX8_newOf_0 5 rfl rfl)
theorem dX8_newOf_8 : decode cX8_newOf 8 = .ok (.istore_n 2, 1) := dk_61 (dk_at dksX8_newOf_0 8 rfl rfl)
theorem dX8_newOf_9 : decode cX8_newOf 9 = .ok (.iload_n 2, 1) := dk_28 (dk_at dksX8_newOf_0 9 rfl rfl)
theorem dX8_newOf_10 : decode cX8_newOf 10 = .ok (.iconst (-1), 1) := dk_2 (dk_at dksX8_newOf_0 10 rfl rfl)
theorem dX8_newOf_11 : decode cX8_newOf 11 = .ok (.if_icmp .ne 13, 3) := dk_160 0 13 (dk_at dksX8_newOf_0 11 rfl rfl)
theorem dX8_newOf_14 : decode cX8_newOf 14 = .ok (.aload_n 0, 1) := dk_42 (dk_at dksX8_newOf_0 14 rfl rfl)
theorem dX8_newOf_15 : decode cX8_newOf 15 = .ok (.iload_n 1, 1) := dk_27 (dk_at dksX8_newOf_0 15 rfl rfl)
theorem dX8_newOf_16 : decode cX8_newOf 16 = .ok (.bipush 7, 2) := dk_16 7 (dk_at dksX8_newOf_0 16 rfl rfl)
theorem dX8_newOf_18 : decode cX8_newOf 18 = .ok (.invokevirtual 101, 3) := dk_182 0 101 (dk_at dksX8_newOf_0 18 rfl rfl)
theorem dX8_newOf_21 : decode cX8_newOf 21 = .ok (.goto 16, 3) := dk_167 0 16 (dk_at dksX8_newOf_0 21 rfl rfl)
theorem dX8_newOf_24 : decode cX8_newOf 24 = .ok (.aload_n 0, 1) := dk_42 (dk_at dksX8_newOf_1 0 rfl rfl)
theorem dX8_newOf_25 : decode cX8_newOf 25 = .ok (.getfield 7, 3) := dk_180 0 7 (dk_at dksX8_newOf_1 1 rfl rfl)
theorem dX8_newOf_28 : decode cX8_newOf 28 = .ok (.aload_n 0, 1) := dk_42 (dk_at dksX8_newOf_1 4 rfl rfl)
theorem dX8_newOf_29 : decode cX8_newOf 29 = .ok (.iload_n 1, 1) := dk_27 (dk_at dksX8_newOf_1 5 rfl rfl)
theorem dX8_newOf_30 : decode cX8_newOf 30 = .ok (.iload_n 2, 1) := dk_28 (dk_at dksX8_newOf_1 6 rfl rfl)
theorem dX8_newOf_31 : decode cX8_newOf 31 = .ok (.invokevirtual 112, 3) := dk_182 0 112 (dk_at dksX8_newOf_1 7 rfl rfl)
theorem dX8_newOf_34 : decode cX8_newOf 34 = .ok (.iconst 3, 1) := dk_6 (dk_at dksX8_newOf_1 10 rfl rfl)
theorem dX8_newOf_35 : decode cX8_newOf 35 = .ok (.iadd, 1) := dk_96 (dk_at dksX8_newOf_1 11 rfl rfl)
theorem dX8_newOf_36 : decode cX8_newOf 36 = .ok (.iaload, 1) := dk_46 (dk_at dksX8_newOf_1 12 rfl rfl)
theorem dX8_newOf_37 : decode cX8_newOf 37 = .ok (.ireturn, 1) := dk_172 (dk_at dksX8_newOf_1 13 rfl rfl)
abbrev cX8_bits : ByteArray := prog_18_method_6_code
def yX8_bits : MethodName := ⟨RX8, "bits", "(I)I"⟩
def dkwX8_bits_1 : List UInt8 := [27, 172]
abbrev dktX8_bits_1 : List UInt8 := dkwX8_bits_1 ++ []
def dkwX8_bits_0 : List UInt8 := [3, 60, 3, 61, 28, 16, 7, 162, 0, 17, 27, 26, 28, 122, 4, 126, 96, 60, 132, 2, 1, 167, 255, 239]
abbrev dktX8_bits_0 : List UInt8 := dkwX8_bits_0 ++ dktX8_bits_1
theorem dksX8_bits_0 : cX8_bits.data.toList.drop 0 = dktX8_bits_0 := by decide +kernel
theorem dksX8_bits_1 : cX8_bits.data.toList.drop 24 = dktX8_bits_1 := dk_seg dksX8_bits_0 24 rfl rfl
theorem dX8_bits_0 : decode cX8_bits 0 = .ok (.iconst 0, 1) := dk_3 (dk_at dksX8_bits_0 0 rfl rfl)
theorem dX8_bits_1 : decode cX8_bits 1 = .ok (.istore_n 1, 1) := dk_60 (dk_at dksX8_bits_0 1 rfl rfl)
theorem dX8_bits_2 : decode cX8_bits 2 = .ok (.iconst 0, 1) := dk_3 (dk_at dksX8_bits_0 2 rfl rfl)
theorem dX8_bits_3 : decode cX8_bits 3 = .ok (.istore_n 2, 1) := dk_61 (dk_at dksX8_bits_0 3 rfl rfl)
theorem dX8_bits_4 : decode cX8_bits 4 = .ok (.iload_n 2, 1) := dk_28 (dk_at dksX8_bits_0 4 rfl rfl)
theorem dX8_bits_5 : decode cX8_bits 5 = .ok (.bipush 7, 2) := dk_16 7 (dk_at dksX8_bits_0 5 rfl rfl)
theorem dX8_bits_7 : decode cX8_bits 7 = .ok (.if_icmp .ge 17, 3) := dk_162 0 17 (dk_at dksX8_bits_0 7 rfl rfl)
theorem dX8_bits_10 : decode cX8_bits 10 = .ok (.iload_n 1, 1) := dk_27 (dk_at dksX8_bits_0 10 rfl rfl)
theorem dX8_bits_11 : decode cX8_bits 11 = .ok (.iload_n 0, 1) := dk_26 (dk_at dksX8_bits_0 11 rfl rfl)
theorem dX8_bits_12 : decode cX8_bits 12 = .ok (.iload_n 2, 1) := dk_28 (dk_at dksX8_bits_0 12 rfl rfl)
theorem dX8_bits_13 : decode cX8_bits 13 = .ok (.ishr, 1) := dk_122 (dk_at dksX8_bits_0 13 rfl rfl)
theorem dX8_bits_14 : decode cX8_bits 14 = .ok (.iconst 1, 1) := dk_4 (dk_at dksX8_bits_0 14 rfl rfl)
theorem dX8_bits_15 : decode cX8_bits 15 = .ok (.iand, 1) := dk_126 (dk_at dksX8_bits_0 15 rfl rfl)
theorem dX8_bits_16 : decode cX8_bits 16 = .ok (.iadd, 1) := dk_96 (dk_at dksX8_bits_0 16 rfl rfl)
theorem dX8_bits_17 : decode cX8_bits 17 = .ok (.istore_n 1, 1) := dk_60 (dk_at dksX8_bits_0 17 rfl rfl)
theorem dX8_bits_18 : decode cX8_bits 18 = .ok (.iinc 2 1, 3) := dk_132 2 1 (dk_at dksX8_bits_0 18 rfl rfl)
theorem dX8_bits_21 : decode cX8_bits 21 = .ok (.goto (-17), 3) := dk_167 255 239 (dk_at dksX8_bits_0 21 rfl rfl)
theorem dX8_bits_24 : decode cX8_bits 24 = .ok (.iload_n 1, 1) := dk_27 (dk_at dksX8_bits_1 0 rfl rfl)
theorem dX8_bits_25 : decode cX8_bits 25 = .ok (.ireturn, 1) := dk_172 (dk_at dksX8_bits_1 1 rfl rfl)
abbrev cX8_leads : ByteArray := prog_18_method_68_code
def yX8_leads : MethodName := ⟨RX8, "leads", "(I)V"⟩
def dkwX8_leads_6 : List UInt8 := [16, 13, 4, 182, 0, 133, 42, 27, 28, 5, 3, 3, 182, 1, 51, 87, 42, 27, 182, 1, 55, 177]
abbrev dktX8_leads_6 : List UInt8 := dkwX8_leads_6 ++ []
def dkwX8_leads_5 : List UInt8 := [16, 45, 29, 96, 3, 182, 0, 133, 132, 3, 1, 167, 255, 211, 42, 27, 16, 14, 3, 182, 0, 133, 42, 27]
abbrev dktX8_leads_5 : List UInt8 := dkwX8_leads_5 ++ dktX8_leads_6
def dkwX8_leads_4 : List UInt8 := [96, 42, 27, 182, 0, 108, 4, 96, 182, 0, 133, 42, 27, 16, 38, 29, 96, 3, 182, 0, 133, 42, 27]
abbrev dktX8_leads_4 : List UInt8 := dkwX8_leads_4 ++ dktX8_leads_5
def dkwX8_leads_3 : List UInt8 := [182, 0, 133, 42, 27, 16, 11, 27, 182, 0, 133, 3, 62, 29, 16, 7, 162, 0, 45, 42, 27, 16, 31, 29]
abbrev dktX8_leads_3 : List UInt8 := dkwX8_leads_3 ++ dktX8_leads_4
def dkwX8_leads_2 : List UInt8 := [96, 46, 154, 0, 16, 42, 180, 0, 7, 17, 39, 44, 28, 96, 27, 4, 96, 79, 42, 27, 6, 5]
abbrev dktX8_leads_2 : List UInt8 := dkwX8_leads_2 ++ dktX8_leads_3
def dkwX8_leads_1 : List UInt8 := [17, 39, 44, 28, 96, 46, 27, 4, 96, 159, 0, 7, 42, 182, 1, 48, 42, 180, 0, 7, 17, 39, 44, 28]
abbrev dktX8_leads_1 : List UInt8 := dkwX8_leads_1 ++ dktX8_leads_2
def dkwX8_leads_0 : List UInt8 := [42, 27, 4, 182, 0, 101, 61, 42, 180, 0, 7, 17, 39, 44, 28, 96, 46, 153, 0, 23, 42, 180, 0, 7]
abbrev dktX8_leads_0 : List UInt8 := dkwX8_leads_0 ++ dktX8_leads_1
theorem dksX8_leads_0 : cX8_leads.data.toList.drop 0 = dktX8_leads_0 := by decide +kernel
theorem dksX8_leads_1 : cX8_leads.data.toList.drop 24 = dktX8_leads_1 := dk_seg dksX8_leads_0 24 rfl rfl
theorem dksX8_leads_2 : cX8_leads.data.toList.drop 48 = dktX8_leads_2 := dk_seg dksX8_leads_1 24 rfl rfl
theorem dksX8_leads_3 : cX8_leads.data.toList.drop 70 = dktX8_leads_3 := dk_seg dksX8_leads_2 22 rfl rfl
theorem dksX8_leads_4 : cX8_leads.data.toList.drop 94 = dktX8_leads_4 := dk_seg dksX8_leads_3 24 rfl rfl
theorem dksX8_leads_5 : cX8_leads.data.toList.drop 117 = dktX8_leads_5 := dk_seg dksX8_leads_4 23 rfl rfl
theorem dksX8_leads_6 : cX8_leads.data.toList.drop 141 = dktX8_leads_6 := dk_seg dksX8_leads_5 24 rfl rfl
theorem dX8_leads_0 : decode cX8_leads 0 = .ok (.aload_n 0, 1) := dk_42 (dk_at dksX8_leads_0 0 rfl rfl)
theorem dX8_leads_1 : decode cX8_leads 1 = .ok (.iload_n 1, 1) := dk_27 (dk_at dksX8_leads_0 1 rfl rfl)
theorem dX8_leads_2 : decode cX8_leads 2 = .ok (.iconst 1, 1) := dk_4 (dk_at dksX8_leads_0 2 rfl rfl)
theorem dX8_leads_3 : decode cX8_leads 3 = .ok (.invokevirtual 101, 3) := dk_182 0 101 (dk_at dksX8_leads_0 3 rfl rfl)
theorem dX8_leads_6 : decode cX8_leads 6 = .ok (.istore_n 2, 1) := dk_61 (dk_at dksX8_leads_0 6 rfl rfl)
theorem dX8_leads_7 : decode cX8_leads 7 = .ok (.aload_n 0, 1) := dk_42 (dk_at dksX8_leads_0 7 rfl rfl)
theorem dX8_leads_8 : decode cX8_leads 8 = .ok (.getfield 7, 3) := dk_180 0 7 (dk_at dksX8_leads_0 8 rfl rfl)
theorem dX8_leads_11 : decode cX8_leads 11 = .ok (.sipush 10028, 3) := dk_17 39 44 (dk_at dksX8_leads_0 11 rfl rfl)
theorem dX8_leads_14 : decode cX8_leads 14 = .ok (.iload_n 2, 1) := dk_28 (dk_at dksX8_leads_0 14 rfl rfl)
theorem dX8_leads_15 : decode cX8_leads 15 = .ok (.iadd, 1) := dk_96 (dk_at dksX8_leads_0 15 rfl rfl)
theorem dX8_leads_16 : decode cX8_leads 16 = .ok (.iaload, 1) := dk_46 (dk_at dksX8_leads_0 16 rfl rfl)
theorem dX8_leads_17 : decode cX8_leads 17 = .ok (.ifCond .eq 23, 3) := dk_153 0 23 (dk_at dksX8_leads_0 17 rfl rfl)
theorem dX8_leads_20 : decode cX8_leads 20 = .ok (.aload_n 0, 1) := dk_42 (dk_at dksX8_leads_0 20 rfl rfl)
theorem dX8_leads_21 : decode cX8_leads 21 = .ok (.getfield 7, 3) := dk_180 0 7 (dk_at dksX8_leads_0 21 rfl rfl)
theorem dX8_leads_24 : decode cX8_leads 24 = .ok (.sipush 10028, 3) := dk_17 39 44 (dk_at dksX8_leads_1 0 rfl rfl)
theorem dX8_leads_27 : decode cX8_leads 27 = .ok (.iload_n 2, 1) := dk_28 (dk_at dksX8_leads_1 3 rfl rfl)
theorem dX8_leads_28 : decode cX8_leads 28 = .ok (.iadd, 1) := dk_96 (dk_at dksX8_leads_1 4 rfl rfl)
theorem dX8_leads_29 : decode cX8_leads 29 = .ok (.iaload, 1) := dk_46 (dk_at dksX8_leads_1 5 rfl rfl)
theorem dX8_leads_30 : decode cX8_leads 30 = .ok (.iload_n 1, 1) := dk_27 (dk_at dksX8_leads_1 6 rfl rfl)
theorem dX8_leads_31 : decode cX8_leads 31 = .ok (.iconst 1, 1) := dk_4 (dk_at dksX8_leads_1 7 rfl rfl)
theorem dX8_leads_32 : decode cX8_leads 32 = .ok (.iadd, 1) := dk_96 (dk_at dksX8_leads_1 8 rfl rfl)
theorem dX8_leads_33 : decode cX8_leads 33 = .ok (.if_icmp .eq 7, 3) := dk_159 0 7 (dk_at dksX8_leads_1 9 rfl rfl)
theorem dX8_leads_36 : decode cX8_leads 36 = .ok (.aload_n 0, 1) := dk_42 (dk_at dksX8_leads_1 12 rfl rfl)
theorem dX8_leads_37 : decode cX8_leads 37 = .ok (.invokevirtual 304, 3) := dk_182 1 48 (dk_at dksX8_leads_1 13 rfl rfl)
theorem dX8_leads_40 : decode cX8_leads 40 = .ok (.aload_n 0, 1) := dk_42 (dk_at dksX8_leads_1 16 rfl rfl)
theorem dX8_leads_41 : decode cX8_leads 41 = .ok (.getfield 7, 3) := dk_180 0 7 (dk_at dksX8_leads_1 17 rfl rfl)
theorem dX8_leads_44 : decode cX8_leads 44 = .ok (.sipush 10028, 3) := dk_17 39 44 (dk_at dksX8_leads_1 20 rfl rfl)
theorem dX8_leads_47 : decode cX8_leads 47 = .ok (.iload_n 2, 1) := dk_28 (dk_at dksX8_leads_1 23 rfl rfl)
theorem dX8_leads_48 : decode cX8_leads 48 = .ok (.iadd, 1) := dk_96 (dk_at dksX8_leads_2 0 rfl rfl)
theorem dX8_leads_49 : decode cX8_leads 49 = .ok (.iaload, 1) := dk_46 (dk_at dksX8_leads_2 1 rfl rfl)
theorem dX8_leads_50 : decode cX8_leads 50 = .ok (.ifCond .ne 16, 3) := dk_154 0 16 (dk_at dksX8_leads_2 2 rfl rfl)
theorem dX8_leads_53 : decode cX8_leads 53 = .ok (.aload_n 0, 1) := dk_42 (dk_at dksX8_leads_2 5 rfl rfl)
theorem dX8_leads_54 : decode cX8_leads 54 = .ok (.getfield 7, 3) := dk_180 0 7 (dk_at dksX8_leads_2 6 rfl rfl)
theorem dX8_leads_57 : decode cX8_leads 57 = .ok (.sipush 10028, 3) := dk_17 39 44 (dk_at dksX8_leads_2 9 rfl rfl)
theorem dX8_leads_60 : decode cX8_leads 60 = .ok (.iload_n 2, 1) := dk_28 (dk_at dksX8_leads_2 12 rfl rfl)
theorem dX8_leads_61 : decode cX8_leads 61 = .ok (.iadd, 1) := dk_96 (dk_at dksX8_leads_2 13 rfl rfl)
theorem dX8_leads_62 : decode cX8_leads 62 = .ok (.iload_n 1, 1) := dk_27 (dk_at dksX8_leads_2 14 rfl rfl)
theorem dX8_leads_63 : decode cX8_leads 63 = .ok (.iconst 1, 1) := dk_4 (dk_at dksX8_leads_2 15 rfl rfl)
theorem dX8_leads_64 : decode cX8_leads 64 = .ok (.iadd, 1) := dk_96 (dk_at dksX8_leads_2 16 rfl rfl)
theorem dX8_leads_65 : decode cX8_leads 65 = .ok (.iastore, 1) := dk_79 (dk_at dksX8_leads_2 17 rfl rfl)
theorem dX8_leads_66 : decode cX8_leads 66 = .ok (.aload_n 0, 1) := dk_42 (dk_at dksX8_leads_2 18 rfl rfl)
theorem dX8_leads_67 : decode cX8_leads 67 = .ok (.iload_n 1, 1) := dk_27 (dk_at dksX8_leads_2 19 rfl rfl)
theorem dX8_leads_68 : decode cX8_leads 68 = .ok (.iconst 3, 1) := dk_6 (dk_at dksX8_leads_2 20 rfl rfl)
theorem dX8_leads_69 : decode cX8_leads 69 = .ok (.iconst 2, 1) := dk_5 (dk_at dksX8_leads_2 21 rfl rfl)
theorem dX8_leads_70 : decode cX8_leads 70 = .ok (.invokevirtual 133, 3) := dk_182 0 133 (dk_at dksX8_leads_3 0 rfl rfl)
theorem dX8_leads_73 : decode cX8_leads 73 = .ok (.aload_n 0, 1) := dk_42 (dk_at dksX8_leads_3 3 rfl rfl)
theorem dX8_leads_74 : decode cX8_leads 74 = .ok (.iload_n 1, 1) := dk_27 (dk_at dksX8_leads_3 4 rfl rfl)
theorem dX8_leads_75 : decode cX8_leads 75 = .ok (.bipush 11, 2) := dk_16 11 (dk_at dksX8_leads_3 5 rfl rfl)
theorem dX8_leads_77 : decode cX8_leads 77 = .ok (.iload_n 1, 1) := dk_27 (dk_at dksX8_leads_3 7 rfl rfl)
theorem dX8_leads_78 : decode cX8_leads 78 = .ok (.invokevirtual 133, 3) := dk_182 0 133 (dk_at dksX8_leads_3 8 rfl rfl)
theorem dX8_leads_81 : decode cX8_leads 81 = .ok (.iconst 0, 1) := dk_3 (dk_at dksX8_leads_3 11 rfl rfl)
theorem dX8_leads_82 : decode cX8_leads 82 = .ok (.istore_n 3, 1) := dk_62 (dk_at dksX8_leads_3 12 rfl rfl)
theorem dX8_leads_83 : decode cX8_leads 83 = .ok (.iload_n 3, 1) := dk_29 (dk_at dksX8_leads_3 13 rfl rfl)
theorem dX8_leads_84 : decode cX8_leads 84 = .ok (.bipush 7, 2) := dk_16 7 (dk_at dksX8_leads_3 14 rfl rfl)
theorem dX8_leads_86 : decode cX8_leads 86 = .ok (.if_icmp .ge 45, 3) := dk_162 0 45 (dk_at dksX8_leads_3 16 rfl rfl)
theorem dX8_leads_89 : decode cX8_leads 89 = .ok (.aload_n 0, 1) := dk_42 (dk_at dksX8_leads_3 19 rfl rfl)
theorem dX8_leads_90 : decode cX8_leads 90 = .ok (.iload_n 1, 1) := dk_27 (dk_at dksX8_leads_3 20 rfl rfl)
theorem dX8_leads_91 : decode cX8_leads 91 = .ok (.bipush 31, 2) := dk_16 31 (dk_at dksX8_leads_3 21 rfl rfl)
theorem dX8_leads_93 : decode cX8_leads 93 = .ok (.iload_n 3, 1) := dk_29 (dk_at dksX8_leads_3 23 rfl rfl)
theorem dX8_leads_94 : decode cX8_leads 94 = .ok (.iadd, 1) := dk_96 (dk_at dksX8_leads_4 0 rfl rfl)
theorem dX8_leads_95 : decode cX8_leads 95 = .ok (.aload_n 0, 1) := dk_42 (dk_at dksX8_leads_4 1 rfl rfl)
theorem dX8_leads_96 : decode cX8_leads 96 = .ok (.iload_n 1, 1) := dk_27 (dk_at dksX8_leads_4 2 rfl rfl)
theorem dX8_leads_97 : decode cX8_leads 97 = .ok (.invokevirtual 108, 3) := dk_182 0 108 (dk_at dksX8_leads_4 3 rfl rfl)
theorem dX8_leads_100 : decode cX8_leads 100 = .ok (.iconst 1, 1) := dk_4 (dk_at dksX8_leads_4 6 rfl rfl)
theorem dX8_leads_101 : decode cX8_leads 101 = .ok (.iadd, 1) := dk_96 (dk_at dksX8_leads_4 7 rfl rfl)
theorem dX8_leads_102 : decode cX8_leads 102 = .ok (.invokevirtual 133, 3) := dk_182 0 133 (dk_at dksX8_leads_4 8 rfl rfl)
theorem dX8_leads_105 : decode cX8_leads 105 = .ok (.aload_n 0, 1) := dk_42 (dk_at dksX8_leads_4 11 rfl rfl)
theorem dX8_leads_106 : decode cX8_leads 106 = .ok (.iload_n 1, 1) := dk_27 (dk_at dksX8_leads_4 12 rfl rfl)
theorem dX8_leads_107 : decode cX8_leads 107 = .ok (.bipush 38, 2) := dk_16 38 (dk_at dksX8_leads_4 13 rfl rfl)
theorem dX8_leads_109 : decode cX8_leads 109 = .ok (.iload_n 3, 1) := dk_29 (dk_at dksX8_leads_4 15 rfl rfl)
theorem dX8_leads_110 : decode cX8_leads 110 = .ok (.iadd, 1) := dk_96 (dk_at dksX8_leads_4 16 rfl rfl)
theorem dX8_leads_111 : decode cX8_leads 111 = .ok (.iconst 0, 1) := dk_3 (dk_at dksX8_leads_4 17 rfl rfl)
theorem dX8_leads_112 : decode cX8_leads 112 = .ok (.invokevirtual 133, 3) := dk_182 0 133 (dk_at dksX8_leads_4 18 rfl rfl)
theorem dX8_leads_115 : decode cX8_leads 115 = .ok (.aload_n 0, 1) := dk_42 (dk_at dksX8_leads_4 21 rfl rfl)
theorem dX8_leads_116 : decode cX8_leads 116 = .ok (.iload_n 1, 1) := dk_27 (dk_at dksX8_leads_4 22 rfl rfl)
theorem dX8_leads_117 : decode cX8_leads 117 = .ok (.bipush 45, 2) := dk_16 45 (dk_at dksX8_leads_5 0 rfl rfl)
theorem dX8_leads_119 : decode cX8_leads 119 = .ok (.iload_n 3, 1) := dk_29 (dk_at dksX8_leads_5 2 rfl rfl)
theorem dX8_leads_120 : decode cX8_leads 120 = .ok (.iadd, 1) := dk_96 (dk_at dksX8_leads_5 3 rfl rfl)
theorem dX8_leads_121 : decode cX8_leads 121 = .ok (.iconst 0, 1) := dk_3 (dk_at dksX8_leads_5 4 rfl rfl)
theorem dX8_leads_122 : decode cX8_leads 122 = .ok (.invokevirtual 133, 3) := dk_182 0 133 (dk_at dksX8_leads_5 5 rfl rfl)
theorem dX8_leads_125 : decode cX8_leads 125 = .ok (.iinc 3 1, 3) := dk_132 3 1 (dk_at dksX8_leads_5 8 rfl rfl)
theorem dX8_leads_128 : decode cX8_leads 128 = .ok (.goto (-45), 3) := dk_167 255 211 (dk_at dksX8_leads_5 11 rfl rfl)
theorem dX8_leads_131 : decode cX8_leads 131 = .ok (.aload_n 0, 1) := dk_42 (dk_at dksX8_leads_5 14 rfl rfl)
theorem dX8_leads_132 : decode cX8_leads 132 = .ok (.iload_n 1, 1) := dk_27 (dk_at dksX8_leads_5 15 rfl rfl)
theorem dX8_leads_133 : decode cX8_leads 133 = .ok (.bipush 14, 2) := dk_16 14 (dk_at dksX8_leads_5 16 rfl rfl)
theorem dX8_leads_135 : decode cX8_leads 135 = .ok (.iconst 0, 1) := dk_3 (dk_at dksX8_leads_5 18 rfl rfl)
theorem dX8_leads_136 : decode cX8_leads 136 = .ok (.invokevirtual 133, 3) := dk_182 0 133 (dk_at dksX8_leads_5 19 rfl rfl)
theorem dX8_leads_139 : decode cX8_leads 139 = .ok (.aload_n 0, 1) := dk_42 (dk_at dksX8_leads_5 22 rfl rfl)
theorem dX8_leads_140 : decode cX8_leads 140 = .ok (.iload_n 1, 1) := dk_27 (dk_at dksX8_leads_5 23 rfl rfl)
theorem dX8_leads_141 : decode cX8_leads 141 = .ok (.bipush 13, 2) := dk_16 13 (dk_at dksX8_leads_6 0 rfl rfl)
theorem dX8_leads_143 : decode cX8_leads 143 = .ok (.iconst 1, 1) := dk_4 (dk_at dksX8_leads_6 2 rfl rfl)
theorem dX8_leads_144 : decode cX8_leads 144 = .ok (.invokevirtual 133, 3) := dk_182 0 133 (dk_at dksX8_leads_6 3 rfl rfl)
theorem dX8_leads_147 : decode cX8_leads 147 = .ok (.aload_n 0, 1) := dk_42 (dk_at dksX8_leads_6 6 rfl rfl)
theorem dX8_leads_148 : decode cX8_leads 148 = .ok (.iload_n 1, 1) := dk_27 (dk_at dksX8_leads_6 7 rfl rfl)
theorem dX8_leads_149 : decode cX8_leads 149 = .ok (.iload_n 2, 1) := dk_28 (dk_at dksX8_leads_6 8 rfl rfl)
theorem dX8_leads_150 : decode cX8_leads 150 = .ok (.iconst 2, 1) := dk_5 (dk_at dksX8_leads_6 9 rfl rfl)
theorem dX8_leads_151 : decode cX8_leads 151 = .ok (.iconst 0, 1) := dk_3 (dk_at dksX8_leads_6 10 rfl rfl)
theorem dX8_leads_152 : decode cX8_leads 152 = .ok (.iconst 0, 1) := dk_3 (dk_at dksX8_leads_6 11 rfl rfl)
theorem dX8_leads_153 : decode cX8_leads 153 = .ok (.invokevirtual 307, 3) := dk_182 1 51 (dk_at dksX8_leads_6 12 rfl rfl)
theorem dX8_leads_156 : decode cX8_leads 156 = .ok (.pop, 1) := dk_87 (dk_at dksX8_leads_6 15 rfl rfl)
theorem dX8_leads_157 : decode cX8_leads 157 = .ok (.aload_n 0, 1) := dk_42 (dk_at dksX8_leads_6 16 rfl rfl)
theorem dX8_leads_158 : decode cX8_leads 158 = .ok (.iload_n 1, 1) := dk_27 (dk_at dksX8_leads_6 17 rfl rfl)
theorem dX8_leads_159 : decode cX8_leads 159 = .ok (.invokevirtual 311, 3) := dk_182 1 55 (dk_at dksX8_leads_6 18 rfl rfl)
theorem dX8_leads_162 : decode cX8_leads 162 = .ok (.return_, 1) := dk_177 (dk_at dksX8_leads_6 21 rfl rfl)
abbrev cX8_breaks : ByteArray := prog_18_method_70_code
def yX8_breaks : MethodName := ⟨RX8, "breaks", "()V"⟩
def dkwX8_breaks_0 : List UInt8 := [42, 180, 0, 7, 17, 43, 128, 42, 180, 0, 7, 17, 43, 128, 46, 4, 96, 79, 177]
abbrev dktX8_breaks_0 : List UInt8 := dkwX8_breaks_0 ++ []
theorem dksX8_breaks_0 : cX8_breaks.data.toList.drop 0 = dktX8_breaks_0 := by decide +kernel
theorem dX8_breaks_0 : decode cX8_breaks 0 = .ok (.aload_n 0, 1) := dk_42 (dk_at dksX8_breaks_0 0 rfl rfl)
theorem dX8_breaks_1 : decode cX8_breaks 1 = .ok (.getfield 7, 3) := dk_180 0 7 (dk_at dksX8_breaks_0 1 rfl rfl)
theorem dX8_breaks_4 : decode cX8_breaks 4 = .ok (.sipush 11136, 3) := dk_17 43 128 (dk_at dksX8_breaks_0 4 rfl rfl)
theorem dX8_breaks_7 : decode cX8_breaks 7 = .ok (.aload_n 0, 1) := dk_42 (dk_at dksX8_breaks_0 7 rfl rfl)
theorem dX8_breaks_8 : decode cX8_breaks 8 = .ok (.getfield 7, 3) := dk_180 0 7 (dk_at dksX8_breaks_0 8 rfl rfl)
theorem dX8_breaks_11 : decode cX8_breaks 11 = .ok (.sipush 11136, 3) := dk_17 43 128 (dk_at dksX8_breaks_0 11 rfl rfl)
theorem dX8_breaks_14 : decode cX8_breaks 14 = .ok (.iaload, 1) := dk_46 (dk_at dksX8_breaks_0 14 rfl rfl)
theorem dX8_breaks_15 : decode cX8_breaks 15 = .ok (.iconst 1, 1) := dk_4 (dk_at dksX8_breaks_0 15 rfl rfl)
theorem dX8_breaks_16 : decode cX8_breaks 16 = .ok (.iadd, 1) := dk_96 (dk_at dksX8_breaks_0 16 rfl rfl)
theorem dX8_breaks_17 : decode cX8_breaks 17 = .ok (.iastore, 1) := dk_79 (dk_at dksX8_breaks_0 17 rfl rfl)
theorem dX8_breaks_18 : decode cX8_breaks 18 = .ok (.return_, 1) := dk_177 (dk_at dksX8_breaks_0 18 rfl rfl)
abbrev cX8_lays : ByteArray := prog_18_method_25_code
def yX8_lays : MethodName := ⟨RX8, "lays", "(IIIII)Z"⟩
def dkwX8_lays_4 : List UInt8 := [96, 21, 4, 79, 42, 180, 0, 7, 21, 6, 6, 96, 21, 5, 79, 4, 172]
abbrev dktX8_lays_4 : List UInt8 := dkwX8_lays_4 ++ []
def dkwX8_lays_3 : List UInt8 := [180, 0, 7, 21, 6, 28, 79, 42, 180, 0, 7, 21, 6, 4, 96, 29, 79, 42, 180, 0, 7, 21, 6, 5]
abbrev dktX8_lays_3 : List UInt8 := dkwX8_lays_3 ++ dktX8_lays_4
def dkwX8_lays_2 : List UInt8 := [16, 8, 182, 0, 101, 4, 96, 182, 0, 133, 42, 27, 42, 27, 182, 0, 108, 182, 0, 112, 54, 6, 42]
abbrev dktX8_lays_2 : List UInt8 := dkwX8_lays_2 ++ dktX8_lays_3
def dkwX8_lays_1 : List UInt8 := [16, 48, 159, 0, 14, 42, 27, 182, 0, 108, 17, 3, 231, 160, 0, 5, 3, 172, 42, 27, 16, 8, 42, 27]
abbrev dktX8_lays_1 : List UInt8 := dkwX8_lays_1 ++ dktX8_lays_2
def dkwX8_lays_0 : List UInt8 := [42, 27, 16, 8, 182, 0, 101, 16, 48, 160, 0, 8, 42, 27, 182, 0, 144, 42, 27, 16, 8, 182, 0, 101]
abbrev dktX8_lays_0 : List UInt8 := dkwX8_lays_0 ++ dktX8_lays_1
theorem dksX8_lays_0 : cX8_lays.data.toList.drop 0 = dktX8_lays_0 := by decide +kernel
theorem dksX8_lays_1 : cX8_lays.data.toList.drop 24 = dktX8_lays_1 := dk_seg dksX8_lays_0 24 rfl rfl
theorem dksX8_lays_2 : cX8_lays.data.toList.drop 48 = dktX8_lays_2 := dk_seg dksX8_lays_1 24 rfl rfl
theorem dksX8_lays_3 : cX8_lays.data.toList.drop 71 = dktX8_lays_3 := dk_seg dksX8_lays_2 23 rfl rfl
theorem dksX8_lays_4 : cX8_lays.data.toList.drop 95 = dktX8_lays_4 := dk_seg dksX8_lays_3 24 rfl rfl
theorem dX8_lays_0 : decode cX8_lays 0 = .ok (.aload_n 0, 1) := dk_42 (dk_at dksX8_lays_0 0 rfl rfl)
theorem dX8_lays_1 : decode cX8_lays 1 = .ok (.iload_n 1, 1) := dk_27 (dk_at dksX8_lays_0 1 rfl rfl)
theorem dX8_lays_2 : decode cX8_lays 2 = .ok (.bipush 8, 2) := dk_16 8 (dk_at dksX8_lays_0 2 rfl rfl)
theorem dX8_lays_4 : decode cX8_lays 4 = .ok (.invokevirtual 101, 3) := dk_182 0 101 (dk_at dksX8_lays_0 4 rfl rfl)
theorem dX8_lays_7 : decode cX8_lays 7 = .ok (.bipush 48, 2) := dk_16 48 (dk_at dksX8_lays_0 7 rfl rfl)
theorem dX8_lays_9 : decode cX8_lays 9 = .ok (.if_icmp .ne 8, 3) := dk_160 0 8 (dk_at dksX8_lays_0 9 rfl rfl)
theorem dX8_lays_12 : decode cX8_lays 12 = .ok (.aload_n 0, 1) := dk_42 (dk_at dksX8_lays_0 12 rfl rfl)
theorem dX8_lays_13 : decode cX8_lays 13 = .ok (.iload_n 1, 1) := dk_27 (dk_at dksX8_lays_0 13 rfl rfl)
theorem dX8_lays_14 : decode cX8_lays 14 = .ok (.invokevirtual 144, 3) := dk_182 0 144 (dk_at dksX8_lays_0 14 rfl rfl)
theorem dX8_lays_17 : decode cX8_lays 17 = .ok (.aload_n 0, 1) := dk_42 (dk_at dksX8_lays_0 17 rfl rfl)
theorem dX8_lays_18 : decode cX8_lays 18 = .ok (.iload_n 1, 1) := dk_27 (dk_at dksX8_lays_0 18 rfl rfl)
theorem dX8_lays_19 : decode cX8_lays 19 = .ok (.bipush 8, 2) := dk_16 8 (dk_at dksX8_lays_0 19 rfl rfl)
theorem dX8_lays_21 : decode cX8_lays 21 = .ok (.invokevirtual 101, 3) := dk_182 0 101 (dk_at dksX8_lays_0 21 rfl rfl)
theorem dX8_lays_24 : decode cX8_lays 24 = .ok (.bipush 48, 2) := dk_16 48 (dk_at dksX8_lays_1 0 rfl rfl)
theorem dX8_lays_26 : decode cX8_lays 26 = .ok (.if_icmp .eq 14, 3) := dk_159 0 14 (dk_at dksX8_lays_1 2 rfl rfl)
theorem dX8_lays_29 : decode cX8_lays 29 = .ok (.aload_n 0, 1) := dk_42 (dk_at dksX8_lays_1 5 rfl rfl)
theorem dX8_lays_30 : decode cX8_lays 30 = .ok (.iload_n 1, 1) := dk_27 (dk_at dksX8_lays_1 6 rfl rfl)
theorem dX8_lays_31 : decode cX8_lays 31 = .ok (.invokevirtual 108, 3) := dk_182 0 108 (dk_at dksX8_lays_1 7 rfl rfl)
theorem dX8_lays_34 : decode cX8_lays 34 = .ok (.sipush 999, 3) := dk_17 3 231 (dk_at dksX8_lays_1 10 rfl rfl)
theorem dX8_lays_37 : decode cX8_lays 37 = .ok (.if_icmp .ne 5, 3) := dk_160 0 5 (dk_at dksX8_lays_1 13 rfl rfl)
theorem dX8_lays_40 : decode cX8_lays 40 = .ok (.iconst 0, 1) := dk_3 (dk_at dksX8_lays_1 16 rfl rfl)
theorem dX8_lays_41 : decode cX8_lays 41 = .ok (.ireturn, 1) := dk_172 (dk_at dksX8_lays_1 17 rfl rfl)
theorem dX8_lays_42 : decode cX8_lays 42 = .ok (.aload_n 0, 1) := dk_42 (dk_at dksX8_lays_1 18 rfl rfl)
theorem dX8_lays_43 : decode cX8_lays 43 = .ok (.iload_n 1, 1) := dk_27 (dk_at dksX8_lays_1 19 rfl rfl)
theorem dX8_lays_44 : decode cX8_lays 44 = .ok (.bipush 8, 2) := dk_16 8 (dk_at dksX8_lays_1 20 rfl rfl)
theorem dX8_lays_46 : decode cX8_lays 46 = .ok (.aload_n 0, 1) := dk_42 (dk_at dksX8_lays_1 22 rfl rfl)
theorem dX8_lays_47 : decode cX8_lays 47 = .ok (.iload_n 1, 1) := dk_27 (dk_at dksX8_lays_1 23 rfl rfl)
theorem dX8_lays_48 : decode cX8_lays 48 = .ok (.bipush 8, 2) := dk_16 8 (dk_at dksX8_lays_2 0 rfl rfl)
theorem dX8_lays_50 : decode cX8_lays 50 = .ok (.invokevirtual 101, 3) := dk_182 0 101 (dk_at dksX8_lays_2 2 rfl rfl)
theorem dX8_lays_53 : decode cX8_lays 53 = .ok (.iconst 1, 1) := dk_4 (dk_at dksX8_lays_2 5 rfl rfl)
theorem dX8_lays_54 : decode cX8_lays 54 = .ok (.iadd, 1) := dk_96 (dk_at dksX8_lays_2 6 rfl rfl)
theorem dX8_lays_55 : decode cX8_lays 55 = .ok (.invokevirtual 133, 3) := dk_182 0 133 (dk_at dksX8_lays_2 7 rfl rfl)
theorem dX8_lays_58 : decode cX8_lays 58 = .ok (.aload_n 0, 1) := dk_42 (dk_at dksX8_lays_2 10 rfl rfl)
theorem dX8_lays_59 : decode cX8_lays 59 = .ok (.iload_n 1, 1) := dk_27 (dk_at dksX8_lays_2 11 rfl rfl)
theorem dX8_lays_60 : decode cX8_lays 60 = .ok (.aload_n 0, 1) := dk_42 (dk_at dksX8_lays_2 12 rfl rfl)
theorem dX8_lays_61 : decode cX8_lays 61 = .ok (.iload_n 1, 1) := dk_27 (dk_at dksX8_lays_2 13 rfl rfl)
theorem dX8_lays_62 : decode cX8_lays 62 = .ok (.invokevirtual 108, 3) := dk_182 0 108 (dk_at dksX8_lays_2 14 rfl rfl)
theorem dX8_lays_65 : decode cX8_lays 65 = .ok (.invokevirtual 112, 3) := dk_182 0 112 (dk_at dksX8_lays_2 17 rfl rfl)
theorem dX8_lays_68 : decode cX8_lays 68 = .ok (.istore 6, 2) := dk_54 6 (dk_at dksX8_lays_2 20 rfl rfl)
theorem dX8_lays_70 : decode cX8_lays 70 = .ok (.aload_n 0, 1) := dk_42 (dk_at dksX8_lays_2 22 rfl rfl)
theorem dX8_lays_71 : decode cX8_lays 71 = .ok (.getfield 7, 3) := dk_180 0 7 (dk_at dksX8_lays_3 0 rfl rfl)
theorem dX8_lays_74 : decode cX8_lays 74 = .ok (.iload 6, 2) := dk_21 6 (dk_at dksX8_lays_3 3 rfl rfl)
theorem dX8_lays_76 : decode cX8_lays 76 = .ok (.iload_n 2, 1) := dk_28 (dk_at dksX8_lays_3 5 rfl rfl)
theorem dX8_lays_77 : decode cX8_lays 77 = .ok (.iastore, 1) := dk_79 (dk_at dksX8_lays_3 6 rfl rfl)
theorem dX8_lays_78 : decode cX8_lays 78 = .ok (.aload_n 0, 1) := dk_42 (dk_at dksX8_lays_3 7 rfl rfl)
theorem dX8_lays_79 : decode cX8_lays 79 = .ok (.getfield 7, 3) := dk_180 0 7 (dk_at dksX8_lays_3 8 rfl rfl)
theorem dX8_lays_82 : decode cX8_lays 82 = .ok (.iload 6, 2) := dk_21 6 (dk_at dksX8_lays_3 11 rfl rfl)
theorem dX8_lays_84 : decode cX8_lays 84 = .ok (.iconst 1, 1) := dk_4 (dk_at dksX8_lays_3 13 rfl rfl)
theorem dX8_lays_85 : decode cX8_lays 85 = .ok (.iadd, 1) := dk_96 (dk_at dksX8_lays_3 14 rfl rfl)
theorem dX8_lays_86 : decode cX8_lays 86 = .ok (.iload_n 3, 1) := dk_29 (dk_at dksX8_lays_3 15 rfl rfl)
theorem dX8_lays_87 : decode cX8_lays 87 = .ok (.iastore, 1) := dk_79 (dk_at dksX8_lays_3 16 rfl rfl)
theorem dX8_lays_88 : decode cX8_lays 88 = .ok (.aload_n 0, 1) := dk_42 (dk_at dksX8_lays_3 17 rfl rfl)
theorem dX8_lays_89 : decode cX8_lays 89 = .ok (.getfield 7, 3) := dk_180 0 7 (dk_at dksX8_lays_3 18 rfl rfl)
theorem dX8_lays_92 : decode cX8_lays 92 = .ok (.iload 6, 2) := dk_21 6 (dk_at dksX8_lays_3 21 rfl rfl)
theorem dX8_lays_94 : decode cX8_lays 94 = .ok (.iconst 2, 1) := dk_5 (dk_at dksX8_lays_3 23 rfl rfl)
theorem dX8_lays_95 : decode cX8_lays 95 = .ok (.iadd, 1) := dk_96 (dk_at dksX8_lays_4 0 rfl rfl)
theorem dX8_lays_96 : decode cX8_lays 96 = .ok (.iload 4, 2) := dk_21 4 (dk_at dksX8_lays_4 1 rfl rfl)
theorem dX8_lays_98 : decode cX8_lays 98 = .ok (.iastore, 1) := dk_79 (dk_at dksX8_lays_4 3 rfl rfl)
theorem dX8_lays_99 : decode cX8_lays 99 = .ok (.aload_n 0, 1) := dk_42 (dk_at dksX8_lays_4 4 rfl rfl)
theorem dX8_lays_100 : decode cX8_lays 100 = .ok (.getfield 7, 3) := dk_180 0 7 (dk_at dksX8_lays_4 5 rfl rfl)
theorem dX8_lays_103 : decode cX8_lays 103 = .ok (.iload 6, 2) := dk_21 6 (dk_at dksX8_lays_4 8 rfl rfl)
theorem dX8_lays_105 : decode cX8_lays 105 = .ok (.iconst 3, 1) := dk_6 (dk_at dksX8_lays_4 10 rfl rfl)
theorem dX8_lays_106 : decode cX8_lays 106 = .ok (.iadd, 1) := dk_96 (dk_at dksX8_lays_4 11 rfl rfl)
theorem dX8_lays_107 : decode cX8_lays 107 = .ok (.iload 5, 2) := dk_21 5 (dk_at dksX8_lays_4 12 rfl rfl)
theorem dX8_lays_109 : decode cX8_lays 109 = .ok (.iastore, 1) := dk_79 (dk_at dksX8_lays_4 14 rfl rfl)
theorem dX8_lays_110 : decode cX8_lays 110 = .ok (.iconst 1, 1) := dk_4 (dk_at dksX8_lays_4 15 rfl rfl)
theorem dX8_lays_111 : decode cX8_lays 111 = .ok (.ireturn, 1) := dk_172 (dk_at dksX8_lays_4 16 rfl rfl)
abbrev cX8_compacts : ByteArray := prog_18_method_24_code
def yX8_compacts : MethodName := ⟨RX8, "compacts", "(I)V"⟩
def dkwX8_compacts_5 : List UInt8 := [177]
abbrev dktX8_compacts_5 : List UInt8 := dkwX8_compacts_5 ++ []
def dkwX8_compacts_4 : List UInt8 := [16, 23, 21, 5, 96, 42, 27, 16, 15, 21, 5, 96, 182, 0, 101, 182, 0, 133, 132, 5, 1, 167, 255, 226]
abbrev dktX8_compacts_4 : List UInt8 := dkwX8_compacts_4 ++ dktX8_compacts_5
def dkwX8_compacts_3 : List UInt8 := [182, 0, 140, 42, 27, 8, 21, 4, 182, 0, 133, 3, 54, 5, 21, 5, 16, 8, 162, 0, 29, 42, 27]
abbrev dktX8_compacts_3 : List UInt8 := dkwX8_compacts_3 ++ dktX8_compacts_4
def dkwX8_compacts_2 : List UInt8 := [42, 27, 16, 7, 42, 180, 0, 7, 42, 27, 29, 182, 0, 112, 6, 96, 46, 182, 0, 133, 42, 27, 28]
abbrev dktX8_compacts_2 : List UInt8 := dkwX8_compacts_2 ++ dktX8_compacts_3
def dkwX8_compacts_1 : List UInt8 := [2, 159, 0, 43, 42, 27, 16, 6, 42, 180, 0, 7, 42, 27, 29, 182, 0, 112, 5, 96, 46, 182, 0, 133]
abbrev dktX8_compacts_1 : List UInt8 := dkwX8_compacts_1 ++ dktX8_compacts_2
def dkwX8_compacts_0 : List UInt8 := [42, 27, 16, 9, 182, 0, 101, 61, 42, 27, 28, 182, 0, 118, 62, 42, 27, 28, 182, 0, 137, 54, 4, 29]
abbrev dktX8_compacts_0 : List UInt8 := dkwX8_compacts_0 ++ dktX8_compacts_1
theorem dksX8_compacts_0 : cX8_compacts.data.toList.drop 0 = dktX8_compacts_0 := by decide +kernel
theorem dksX8_compacts_1 : cX8_compacts.data.toList.drop 24 = dktX8_compacts_1 := dk_seg dksX8_compacts_0 24 rfl rfl
theorem dksX8_compacts_2 : cX8_compacts.data.toList.drop 48 = dktX8_compacts_2 := dk_seg dksX8_compacts_1 24 rfl rfl
theorem dksX8_compacts_3 : cX8_compacts.data.toList.drop 71 = dktX8_compacts_3 := dk_seg dksX8_compacts_2 23 rfl rfl
theorem dksX8_compacts_4 : cX8_compacts.data.toList.drop 94 = dktX8_compacts_4 := dk_seg dksX8_compacts_3 23 rfl rfl
theorem dksX8_compacts_5 : cX8_compacts.data.toList.drop 118 = dktX8_compacts_5 := dk_seg dksX8_compacts_4 24 rfl rfl
theorem dX8_compacts_0 : decode cX8_compacts 0 = .ok (.aload_n 0, 1) := dk_42 (dk_at dksX8_compacts_0 0 rfl rfl)
theorem dX8_compacts_1 : decode cX8_compacts 1 = .ok (.iload_n 1, 1) := dk_27 (dk_at dksX8_compacts_0 1 rfl rfl)
theorem dX8_compacts_2 : decode cX8_compacts 2 = .ok (.bipush 9, 2) := dk_16 9 (dk_at dksX8_compacts_0 2 rfl rfl)
theorem dX8_compacts_4 : decode cX8_compacts 4 = .ok (.invokevirtual 101, 3) := dk_182 0 101 (dk_at dksX8_compacts_0 4 rfl rfl)
theorem dX8_compacts_7 : decode cX8_compacts 7 = .ok (.istore_n 2, 1) := dk_61 (dk_at dksX8_compacts_0 7 rfl rfl)
theorem dX8_compacts_8 : decode cX8_compacts 8 = .ok (.aload_n 0, 1) := dk_42 (dk_at dksX8_compacts_0 8 rfl rfl)
theorem dX8_compacts_9 : decode cX8_compacts 9 = .ok (.iload_n 1, 1) := dk_27 (dk_at dksX8_compacts_0 9 rfl rfl)
theorem dX8_compacts_10 : decode cX8_compacts 10 = .ok (.iload_n 2, 1) := dk_28 (dk_at dksX8_compacts_0 10 rfl rfl)
theorem dX8_compacts_11 : decode cX8_compacts 11 = .ok (.invokevirtual 118, 3) := dk_182 0 118 (dk_at dksX8_compacts_0 11 rfl rfl)
theorem dX8_compacts_14 : decode cX8_compacts 14 = .ok (.istore_n 3, 1) := dk_62 (dk_at dksX8_compacts_0 14 rfl rfl)
theorem dX8_compacts_15 : decode cX8_compacts 15 = .ok (.aload_n 0, 1) := dk_42 (dk_at dksX8_compacts_0 15 rfl rfl)
theorem dX8_compacts_16 : decode cX8_compacts 16 = .ok (.iload_n 1, 1) := dk_27 (dk_at dksX8_compacts_0 16 rfl rfl)
theorem dX8_compacts_17 : decode cX8_compacts 17 = .ok (.iload_n 2, 1) := dk_28 (dk_at dksX8_compacts_0 17 rfl rfl)
theorem dX8_compacts_18 : decode cX8_compacts 18 = .ok (.invokevirtual 137, 3) := dk_182 0 137 (dk_at dksX8_compacts_0 18 rfl rfl)
theorem dX8_compacts_21 : decode cX8_compacts 21 = .ok (.istore 4, 2) := dk_54 4 (dk_at dksX8_compacts_0 21 rfl rfl)
theorem dX8_compacts_23 : decode cX8_compacts 23 = .ok (.iload_n 3, 1) := dk_29 (dk_at dksX8_compacts_0 23 rfl rfl)
theorem dX8_compacts_24 : decode cX8_compacts 24 = .ok (.iconst (-1), 1) := dk_2 (dk_at dksX8_compacts_1 0 rfl rfl)
theorem dX8_compacts_25 : decode cX8_compacts 25 = .ok (.if_icmp .eq 43, 3) := dk_159 0 43 (dk_at dksX8_compacts_1 1 rfl rfl)
theorem dX8_compacts_28 : decode cX8_compacts 28 = .ok (.aload_n 0, 1) := dk_42 (dk_at dksX8_compacts_1 4 rfl rfl)
theorem dX8_compacts_29 : decode cX8_compacts 29 = .ok (.iload_n 1, 1) := dk_27 (dk_at dksX8_compacts_1 5 rfl rfl)
theorem dX8_compacts_30 : decode cX8_compacts 30 = .ok (.bipush 6, 2) := dk_16 6 (dk_at dksX8_compacts_1 6 rfl rfl)
theorem dX8_compacts_32 : decode cX8_compacts 32 = .ok (.aload_n 0, 1) := dk_42 (dk_at dksX8_compacts_1 8 rfl rfl)
theorem dX8_compacts_33 : decode cX8_compacts 33 = .ok (.getfield 7, 3) := dk_180 0 7 (dk_at dksX8_compacts_1 9 rfl rfl)
theorem dX8_compacts_36 : decode cX8_compacts 36 = .ok (.aload_n 0, 1) := dk_42 (dk_at dksX8_compacts_1 12 rfl rfl)
theorem dX8_compacts_37 : decode cX8_compacts 37 = .ok (.iload_n 1, 1) := dk_27 (dk_at dksX8_compacts_1 13 rfl rfl)
theorem dX8_compacts_38 : decode cX8_compacts 38 = .ok (.iload_n 3, 1) := dk_29 (dk_at dksX8_compacts_1 14 rfl rfl)
theorem dX8_compacts_39 : decode cX8_compacts 39 = .ok (.invokevirtual 112, 3) := dk_182 0 112 (dk_at dksX8_compacts_1 15 rfl rfl)
theorem dX8_compacts_42 : decode cX8_compacts 42 = .ok (.iconst 2, 1) := dk_5 (dk_at dksX8_compacts_1 18 rfl rfl)
theorem dX8_compacts_43 : decode cX8_compacts 43 = .ok (.iadd, 1) := dk_96 (dk_at dksX8_compacts_1 19 rfl rfl)
theorem dX8_compacts_44 : decode cX8_compacts 44 = .ok (.iaload, 1) := dk_46 (dk_at dksX8_compacts_1 20 rfl rfl)
theorem dX8_compacts_45 : decode cX8_compacts 45 = .ok (.invokevirtual 133, 3) := dk_182 0 133 (dk_at dksX8_compacts_1 21 rfl rfl)
theorem dX8_compacts_48 : decode cX8_compacts 48 = .ok (.aload_n 0, 1) := dk_42 (dk_at dksX8_compacts_2 0 rfl rfl)
theorem dX8_compacts_49 : decode cX8_compacts 49 = .ok (.iload_n 1, 1) := dk_27 (dk_at dksX8_compacts_2 1 rfl rfl)
theorem dX8_compacts_50 : decode cX8_compacts 50 = .ok (.bipush 7, 2) := dk_16 7 (dk_at dksX8_compacts_2 2 rfl rfl)
theorem dX8_compacts_52 : decode cX8_compacts 52 = .ok (.aload_n 0, 1) := dk_42 (dk_at dksX8_compacts_2 4 rfl rfl)
theorem dX8_compacts_53 : decode cX8_compacts 53 = .ok (.getfield 7, 3) := dk_180 0 7 (dk_at dksX8_compacts_2 5 rfl rfl)
theorem dX8_compacts_56 : decode cX8_compacts 56 = .ok (.aload_n 0, 1) := dk_42 (dk_at dksX8_compacts_2 8 rfl rfl)
theorem dX8_compacts_57 : decode cX8_compacts 57 = .ok (.iload_n 1, 1) := dk_27 (dk_at dksX8_compacts_2 9 rfl rfl)
theorem dX8_compacts_58 : decode cX8_compacts 58 = .ok (.iload_n 3, 1) := dk_29 (dk_at dksX8_compacts_2 10 rfl rfl)
theorem dX8_compacts_59 : decode cX8_compacts 59 = .ok (.invokevirtual 112, 3) := dk_182 0 112 (dk_at dksX8_compacts_2 11 rfl rfl)
theorem dX8_compacts_62 : decode cX8_compacts 62 = .ok (.iconst 3, 1) := dk_6 (dk_at dksX8_compacts_2 14 rfl rfl)
theorem dX8_compacts_63 : decode cX8_compacts 63 = .ok (.iadd, 1) := dk_96 (dk_at dksX8_compacts_2 15 rfl rfl)
theorem dX8_compacts_64 : decode cX8_compacts 64 = .ok (.iaload, 1) := dk_46 (dk_at dksX8_compacts_2 16 rfl rfl)
theorem dX8_compacts_65 : decode cX8_compacts 65 = .ok (.invokevirtual 133, 3) := dk_182 0 133 (dk_at dksX8_compacts_2 17 rfl rfl)
theorem dX8_compacts_68 : decode cX8_compacts 68 = .ok (.aload_n 0, 1) := dk_42 (dk_at dksX8_compacts_2 20 rfl rfl)
theorem dX8_compacts_69 : decode cX8_compacts 69 = .ok (.iload_n 1, 1) := dk_27 (dk_at dksX8_compacts_2 21 rfl rfl)
theorem dX8_compacts_70 : decode cX8_compacts 70 = .ok (.iload_n 2, 1) := dk_28 (dk_at dksX8_compacts_2 22 rfl rfl)
theorem dX8_compacts_71 : decode cX8_compacts 71 = .ok (.invokevirtual 140, 3) := dk_182 0 140 (dk_at dksX8_compacts_3 0 rfl rfl)
theorem dX8_compacts_74 : decode cX8_compacts 74 = .ok (.aload_n 0, 1) := dk_42 (dk_at dksX8_compacts_3 3 rfl rfl)
theorem dX8_compacts_75 : decode cX8_compacts 75 = .ok (.iload_n 1, 1) := dk_27 (dk_at dksX8_compacts_3 4 rfl rfl)
theorem dX8_compacts_76 : decode cX8_compacts 76 = .ok (.iconst 5, 1) := dk_8 (dk_at dksX8_compacts_3 5 rfl rfl)
theorem dX8_compacts_77 : decode cX8_compacts 77 = .ok (.iload 4, 2) := dk_21 4 (dk_at dksX8_compacts_3 6 rfl rfl)
theorem dX8_compacts_79 : decode cX8_compacts 79 = .ok (.invokevirtual 133, 3) := dk_182 0 133 (dk_at dksX8_compacts_3 8 rfl rfl)
theorem dX8_compacts_82 : decode cX8_compacts 82 = .ok (.iconst 0, 1) := dk_3 (dk_at dksX8_compacts_3 11 rfl rfl)
theorem dX8_compacts_83 : decode cX8_compacts 83 = .ok (.istore 5, 2) := dk_54 5 (dk_at dksX8_compacts_3 12 rfl rfl)
theorem dX8_compacts_85 : decode cX8_compacts 85 = .ok (.iload 5, 2) := dk_21 5 (dk_at dksX8_compacts_3 14 rfl rfl)
theorem dX8_compacts_87 : decode cX8_compacts 87 = .ok (.bipush 8, 2) := dk_16 8 (dk_at dksX8_compacts_3 16 rfl rfl)
theorem dX8_compacts_89 : decode cX8_compacts 89 = .ok (.if_icmp .ge 29, 3) := dk_162 0 29 (dk_at dksX8_compacts_3 18 rfl rfl)
theorem dX8_compacts_92 : decode cX8_compacts 92 = .ok (.aload_n 0, 1) := dk_42 (dk_at dksX8_compacts_3 21 rfl rfl)
theorem dX8_compacts_93 : decode cX8_compacts 93 = .ok (.iload_n 1, 1) := dk_27 (dk_at dksX8_compacts_3 22 rfl rfl)
theorem dX8_compacts_94 : decode cX8_compacts 94 = .ok (.bipush 23, 2) := dk_16 23 (dk_at dksX8_compacts_4 0 rfl rfl)
theorem dX8_compacts_96 : decode cX8_compacts 96 = .ok (.iload 5, 2) := dk_21 5 (dk_at dksX8_compacts_4 2 rfl rfl)
theorem dX8_compacts_98 : decode cX8_compacts 98 = .ok (.iadd, 1) := dk_96 (dk_at dksX8_compacts_4 4 rfl rfl)
theorem dX8_compacts_99 : decode cX8_compacts 99 = .ok (.aload_n 0, 1) := dk_42 (dk_at dksX8_compacts_4 5 rfl rfl)
theorem dX8_compacts_100 : decode cX8_compacts 100 = .ok (.iload_n 1, 1) := dk_27 (dk_at dksX8_compacts_4 6 rfl rfl)
theorem dX8_compacts_101 : decode cX8_compacts 101 = .ok (.bipush 15, 2) := dk_16 15 (dk_at dksX8_compacts_4 7 rfl rfl)
theorem dX8_compacts_103 : decode cX8_compacts 103 = .ok (.iload 5, 2) := dk_21 5 (dk_at dksX8_compacts_4 9 rfl rfl)
theorem dX8_compacts_105 : decode cX8_compacts 105 = .ok (.iadd, 1) := dk_96 (dk_at dksX8_compacts_4 11 rfl rfl)
theorem dX8_compacts_106 : decode cX8_compacts 106 = .ok (.invokevirtual 101, 3) := dk_182 0 101 (dk_at dksX8_compacts_4 12 rfl rfl)
theorem dX8_compacts_109 : decode cX8_compacts 109 = .ok (.invokevirtual 133, 3) := dk_182 0 133 (dk_at dksX8_compacts_4 15 rfl rfl)
theorem dX8_compacts_112 : decode cX8_compacts 112 = .ok (.iinc 5 1, 3) := dk_132 5 1 (dk_at dksX8_compacts_4 18 rfl rfl)
theorem dX8_compacts_115 : decode cX8_compacts 115 = .ok (.goto (-30), 3) := dk_167 255 226 (dk_at dksX8_compacts_4 21 rfl rfl)
theorem dX8_compacts_118 : decode cX8_compacts 118 = .ok (.return_, 1) := dk_177 (dk_at dksX8_compacts_5 0 rfl rfl)
abbrev cX8_goesUpTo : ByteArray := prog_18_method_23_code
def yX8_goesUpTo : MethodName := ⟨RX8, "goesUpTo", "(II)V"⟩
def dkwX8_goesUpTo_3 : List UInt8 := [21, 4, 182, 0, 133, 42, 27, 7, 28, 182, 0, 133, 177]
abbrev dktX8_goesUpTo_3 : List UInt8 := dkwX8_goesUpTo_3 ++ []
def dkwX8_goesUpTo_2 : List UInt8 := [21, 5, 96, 7, 29, 104, 96, 182, 0, 101, 182, 0, 133, 132, 5, 1, 167, 255, 220, 42, 27, 16, 8]
abbrev dktX8_goesUpTo_2 : List UInt8 := dkwX8_goesUpTo_2 ++ dktX8_goesUpTo_3
def dkwX8_goesUpTo_1 : List UInt8 := [3, 54, 5, 21, 5, 7, 21, 4, 104, 162, 0, 33, 42, 27, 16, 52, 21, 5, 96, 42, 27, 16, 52]
abbrev dktX8_goesUpTo_1 : List UInt8 := dkwX8_goesUpTo_1 ++ dktX8_goesUpTo_2
def dkwX8_goesUpTo_0 : List UInt8 := [28, 42, 27, 7, 182, 0, 101, 100, 62, 3, 42, 27, 16, 8, 182, 0, 101, 29, 100, 184, 0, 130, 54, 4]
abbrev dktX8_goesUpTo_0 : List UInt8 := dkwX8_goesUpTo_0 ++ dktX8_goesUpTo_1
theorem dksX8_goesUpTo_0 : cX8_goesUpTo.data.toList.drop 0 = dktX8_goesUpTo_0 := by decide +kernel
theorem dksX8_goesUpTo_1 : cX8_goesUpTo.data.toList.drop 24 = dktX8_goesUpTo_1 := dk_seg dksX8_goesUpTo_0 24 rfl rfl
theorem dksX8_goesUpTo_2 : cX8_goesUpTo.data.toList.drop 47 = dktX8_goesUpTo_2 := dk_seg dksX8_goesUpTo_1 23 rfl rfl
theorem dksX8_goesUpTo_3 : cX8_goesUpTo.data.toList.drop 70 = dktX8_goesUpTo_3 := dk_seg dksX8_goesUpTo_2 23 rfl rfl
theorem dX8_goesUpTo_0 : decode cX8_goesUpTo 0 = .ok (.iload_n 2, 1) := dk_28 (dk_at dksX8_goesUpTo_0 0 rfl rfl)
theorem dX8_goesUpTo_1 : decode cX8_goesUpTo 1 = .ok (.aload_n 0, 1) := dk_42 (dk_at dksX8_goesUpTo_0 1 rfl rfl)
theorem dX8_goesUpTo_2 : decode cX8_goesUpTo 2 = .ok (.iload_n 1, 1) := dk_27 (dk_at dksX8_goesUpTo_0 2 rfl rfl)
theorem dX8_goesUpTo_3 : decode cX8_goesUpTo 3 = .ok (.iconst 4, 1) := dk_7 (dk_at dksX8_goesUpTo_0 3 rfl rfl)
theorem dX8_goesUpTo_4 : decode cX8_goesUpTo 4 = .ok (.invokevirtual 101, 3) := dk_182 0 101 (dk_at dksX8_goesUpTo_0 4 rfl rfl)
theorem dX8_goesUpTo_7 : decode cX8_goesUpTo 7 = .ok (.isub, 1) := dk_100 (dk_at dksX8_goesUpTo_0 7 rfl rfl)
theorem dX8_goesUpTo_8 : decode cX8_goesUpTo 8 = .ok (.istore_n 3, 1) := dk_62 (dk_at dksX8_goesUpTo_0 8 rfl rfl)
theorem dX8_goesUpTo_9 : decode cX8_goesUpTo 9 = .ok (.iconst 0, 1) := dk_3 (dk_at dksX8_goesUpTo_0 9 rfl rfl)
theorem dX8_goesUpTo_10 : decode cX8_goesUpTo 10 = .ok (.aload_n 0, 1) := dk_42 (dk_at dksX8_goesUpTo_0 10 rfl rfl)
theorem dX8_goesUpTo_11 : decode cX8_goesUpTo 11 = .ok (.iload_n 1, 1) := dk_27 (dk_at dksX8_goesUpTo_0 11 rfl rfl)
theorem dX8_goesUpTo_12 : decode cX8_goesUpTo 12 = .ok (.bipush 8, 2) := dk_16 8 (dk_at dksX8_goesUpTo_0 12 rfl rfl)
theorem dX8_goesUpTo_14 : decode cX8_goesUpTo 14 = .ok (.invokevirtual 101, 3) := dk_182 0 101 (dk_at dksX8_goesUpTo_0 14 rfl rfl)
theorem dX8_goesUpTo_17 : decode cX8_goesUpTo 17 = .ok (.iload_n 3, 1) := dk_29 (dk_at dksX8_goesUpTo_0 17 rfl rfl)
theorem dX8_goesUpTo_18 : decode cX8_goesUpTo 18 = .ok (.isub, 1) := dk_100 (dk_at dksX8_goesUpTo_0 18 rfl rfl)
theorem dX8_goesUpTo_19 : decode cX8_goesUpTo 19 = .ok (.invokestatic 130, 3) := dk_184 0 130 (dk_at dksX8_goesUpTo_0 19 rfl rfl)
theorem dX8_goesUpTo_22 : decode cX8_goesUpTo 22 = .ok (.istore 4, 2) := dk_54 4 (dk_at dksX8_goesUpTo_0 22 rfl rfl)
theorem dX8_goesUpTo_24 : decode cX8_goesUpTo 24 = .ok (.iconst 0, 1) := dk_3 (dk_at dksX8_goesUpTo_1 0 rfl rfl)
theorem dX8_goesUpTo_25 : decode cX8_goesUpTo 25 = .ok (.istore 5, 2) := dk_54 5 (dk_at dksX8_goesUpTo_1 1 rfl rfl)
theorem dX8_goesUpTo_27 : decode cX8_goesUpTo 27 = .ok (.iload 5, 2) := dk_21 5 (dk_at dksX8_goesUpTo_1 3 rfl rfl)
theorem dX8_goesUpTo_29 : decode cX8_goesUpTo 29 = .ok (.iconst 4, 1) := dk_7 (dk_at dksX8_goesUpTo_1 5 rfl rfl)
theorem dX8_goesUpTo_30 : decode cX8_goesUpTo 30 = .ok (.iload 4, 2) := dk_21 4 (dk_at dksX8_goesUpTo_1 6 rfl rfl)
theorem dX8_goesUpTo_32 : decode cX8_goesUpTo 32 = .ok (.imul, 1) := dk_104 (dk_at dksX8_goesUpTo_1 8 rfl rfl)
theorem dX8_goesUpTo_33 : decode cX8_goesUpTo 33 = .ok (.if_icmp .ge 33, 3) := dk_162 0 33 (dk_at dksX8_goesUpTo_1 9 rfl rfl)
theorem dX8_goesUpTo_36 : decode cX8_goesUpTo 36 = .ok (.aload_n 0, 1) := dk_42 (dk_at dksX8_goesUpTo_1 12 rfl rfl)
theorem dX8_goesUpTo_37 : decode cX8_goesUpTo 37 = .ok (.iload_n 1, 1) := dk_27 (dk_at dksX8_goesUpTo_1 13 rfl rfl)
theorem dX8_goesUpTo_38 : decode cX8_goesUpTo 38 = .ok (.bipush 52, 2) := dk_16 52 (dk_at dksX8_goesUpTo_1 14 rfl rfl)
theorem dX8_goesUpTo_40 : decode cX8_goesUpTo 40 = .ok (.iload 5, 2) := dk_21 5 (dk_at dksX8_goesUpTo_1 16 rfl rfl)
theorem dX8_goesUpTo_42 : decode cX8_goesUpTo 42 = .ok (.iadd, 1) := dk_96 (dk_at dksX8_goesUpTo_1 18 rfl rfl)
theorem dX8_goesUpTo_43 : decode cX8_goesUpTo 43 = .ok (.aload_n 0, 1) := dk_42 (dk_at dksX8_goesUpTo_1 19 rfl rfl)
theorem dX8_goesUpTo_44 : decode cX8_goesUpTo 44 = .ok (.iload_n 1, 1) := dk_27 (dk_at dksX8_goesUpTo_1 20 rfl rfl)
theorem dX8_goesUpTo_45 : decode cX8_goesUpTo 45 = .ok (.bipush 52, 2) := dk_16 52 (dk_at dksX8_goesUpTo_1 21 rfl rfl)
theorem dX8_goesUpTo_47 : decode cX8_goesUpTo 47 = .ok (.iload 5, 2) := dk_21 5 (dk_at dksX8_goesUpTo_2 0 rfl rfl)
theorem dX8_goesUpTo_49 : decode cX8_goesUpTo 49 = .ok (.iadd, 1) := dk_96 (dk_at dksX8_goesUpTo_2 2 rfl rfl)
theorem dX8_goesUpTo_50 : decode cX8_goesUpTo 50 = .ok (.iconst 4, 1) := dk_7 (dk_at dksX8_goesUpTo_2 3 rfl rfl)
theorem dX8_goesUpTo_51 : decode cX8_goesUpTo 51 = .ok (.iload_n 3, 1) := dk_29 (dk_at dksX8_goesUpTo_2 4 rfl rfl)
theorem dX8_goesUpTo_52 : decode cX8_goesUpTo 52 = .ok (.imul, 1) := dk_104 (dk_at dksX8_goesUpTo_2 5 rfl rfl)
theorem dX8_goesUpTo_53 : decode cX8_goesUpTo 53 = .ok (.iadd, 1) := dk_96 (dk_at dksX8_goesUpTo_2 6 rfl rfl)
theorem dX8_goesUpTo_54 : decode cX8_goesUpTo 54 = .ok (.invokevirtual 101, 3) := dk_182 0 101 (dk_at dksX8_goesUpTo_2 7 rfl rfl)
theorem dX8_goesUpTo_57 : decode cX8_goesUpTo 57 = .ok (.invokevirtual 133, 3) := dk_182 0 133 (dk_at dksX8_goesUpTo_2 10 rfl rfl)
theorem dX8_goesUpTo_60 : decode cX8_goesUpTo 60 = .ok (.iinc 5 1, 3) := dk_132 5 1 (dk_at dksX8_goesUpTo_2 13 rfl rfl)
theorem dX8_goesUpTo_63 : decode cX8_goesUpTo 63 = .ok (.goto (-36), 3) := dk_167 255 220 (dk_at dksX8_goesUpTo_2 16 rfl rfl)
theorem dX8_goesUpTo_66 : decode cX8_goesUpTo 66 = .ok (.aload_n 0, 1) := dk_42 (dk_at dksX8_goesUpTo_2 19 rfl rfl)
theorem dX8_goesUpTo_67 : decode cX8_goesUpTo 67 = .ok (.iload_n 1, 1) := dk_27 (dk_at dksX8_goesUpTo_2 20 rfl rfl)
theorem dX8_goesUpTo_68 : decode cX8_goesUpTo 68 = .ok (.bipush 8, 2) := dk_16 8 (dk_at dksX8_goesUpTo_2 21 rfl rfl)
theorem dX8_goesUpTo_70 : decode cX8_goesUpTo 70 = .ok (.iload 4, 2) := dk_21 4 (dk_at dksX8_goesUpTo_3 0 rfl rfl)
theorem dX8_goesUpTo_72 : decode cX8_goesUpTo 72 = .ok (.invokevirtual 133, 3) := dk_182 0 133 (dk_at dksX8_goesUpTo_3 2 rfl rfl)
theorem dX8_goesUpTo_75 : decode cX8_goesUpTo 75 = .ok (.aload_n 0, 1) := dk_42 (dk_at dksX8_goesUpTo_3 5 rfl rfl)
theorem dX8_goesUpTo_76 : decode cX8_goesUpTo 76 = .ok (.iload_n 1, 1) := dk_27 (dk_at dksX8_goesUpTo_3 6 rfl rfl)
theorem dX8_goesUpTo_77 : decode cX8_goesUpTo 77 = .ok (.iconst 4, 1) := dk_7 (dk_at dksX8_goesUpTo_3 7 rfl rfl)
theorem dX8_goesUpTo_78 : decode cX8_goesUpTo 78 = .ok (.iload_n 2, 1) := dk_28 (dk_at dksX8_goesUpTo_3 8 rfl rfl)
theorem dX8_goesUpTo_79 : decode cX8_goesUpTo 79 = .ok (.invokevirtual 133, 3) := dk_182 0 133 (dk_at dksX8_goesUpTo_3 9 rfl rfl)
theorem dX8_goesUpTo_82 : decode cX8_goesUpTo 82 = .ok (.return_, 1) := dk_177 (dk_at dksX8_goesUpTo_3 12 rfl rfl)
abbrev cX8_max : ByteArray := prog_18_method_4_code
def yX8_max : MethodName := ⟨RX8, "max", "(II)I"⟩
def dkwX8_max_0 : List UInt8 := [26, 27, 164, 0, 7, 26, 167, 0, 4, 27, 172]
abbrev dktX8_max_0 : List UInt8 := dkwX8_max_0 ++ []
theorem dksX8_max_0 : cX8_max.data.toList.drop 0 = dktX8_max_0 := by decide +kernel
theorem dX8_max_0 : decode cX8_max 0 = .ok (.iload_n 0, 1) := dk_26 (dk_at dksX8_max_0 0 rfl rfl)
theorem dX8_max_1 : decode cX8_max 1 = .ok (.iload_n 1, 1) := dk_27 (dk_at dksX8_max_0 1 rfl rfl)
theorem dX8_max_2 : decode cX8_max 2 = .ok (.if_icmp .le 7, 3) := dk_164 0 7 (dk_at dksX8_max_0 2 rfl rfl)
theorem dX8_max_5 : decode cX8_max 5 = .ok (.iload_n 0, 1) := dk_26 (dk_at dksX8_max_0 5 rfl rfl)
theorem dX8_max_6 : decode cX8_max 6 = .ok (.goto 4, 3) := dk_167 0 4 (dk_at dksX8_max_0 6 rfl rfl)
theorem dX8_max_9 : decode cX8_max 9 = .ok (.iload_n 1, 1) := dk_27 (dk_at dksX8_max_0 9 rfl rfl)
theorem dX8_max_10 : decode cX8_max 10 = .ok (.ireturn, 1) := dk_172 (dk_at dksX8_max_0 10 rfl rfl)
abbrev cX8_laidByLeader : ByteArray := prog_18_method_69_code
def yX8_laidByLeader : MethodName := ⟨RX8, "laidByLeader", "(I)V"⟩
def dkwX8_laidByLeader_1 : List UInt8 := [177]
abbrev dktX8_laidByLeader_1 : List UInt8 := dkwX8_laidByLeader_1 ++ []
def dkwX8_laidByLeader_0 : List UInt8 := [42, 27, 16, 38, 27, 96, 42, 27, 182, 0, 108, 182, 0, 133, 42, 27, 182, 1, 58, 42, 27, 182, 1, 61]
abbrev dktX8_laidByLeader_0 : List UInt8 := dkwX8_laidByLeader_0 ++ dktX8_laidByLeader_1
theorem dksX8_laidByLeader_0 : cX8_laidByLeader.data.toList.drop 0 = dktX8_laidByLeader_0 := by decide +kernel
theorem dksX8_laidByLeader_1 : cX8_laidByLeader.data.toList.drop 24 = dktX8_laidByLeader_1 := dk_seg dksX8_laidByLeader_0 24 rfl rfl
theorem dX8_laidByLeader_0 : decode cX8_laidByLeader 0 = .ok (.aload_n 0, 1) := dk_42 (dk_at dksX8_laidByLeader_0 0 rfl rfl)
theorem dX8_laidByLeader_1 : decode cX8_laidByLeader 1 = .ok (.iload_n 1, 1) := dk_27 (dk_at dksX8_laidByLeader_0 1 rfl rfl)
theorem dX8_laidByLeader_2 : decode cX8_laidByLeader 2 = .ok (.bipush 38, 2) := dk_16 38 (dk_at dksX8_laidByLeader_0 2 rfl rfl)
theorem dX8_laidByLeader_4 : decode cX8_laidByLeader 4 = .ok (.iload_n 1, 1) := dk_27 (dk_at dksX8_laidByLeader_0 4 rfl rfl)
theorem dX8_laidByLeader_5 : decode cX8_laidByLeader 5 = .ok (.iadd, 1) := dk_96 (dk_at dksX8_laidByLeader_0 5 rfl rfl)
theorem dX8_laidByLeader_6 : decode cX8_laidByLeader 6 = .ok (.aload_n 0, 1) := dk_42 (dk_at dksX8_laidByLeader_0 6 rfl rfl)
theorem dX8_laidByLeader_7 : decode cX8_laidByLeader 7 = .ok (.iload_n 1, 1) := dk_27 (dk_at dksX8_laidByLeader_0 7 rfl rfl)
theorem dX8_laidByLeader_8 : decode cX8_laidByLeader 8 = .ok (.invokevirtual 108, 3) := dk_182 0 108 (dk_at dksX8_laidByLeader_0 8 rfl rfl)
theorem dX8_laidByLeader_11 : decode cX8_laidByLeader 11 = .ok (.invokevirtual 133, 3) := dk_182 0 133 (dk_at dksX8_laidByLeader_0 11 rfl rfl)
theorem dX8_laidByLeader_14 : decode cX8_laidByLeader 14 = .ok (.aload_n 0, 1) := dk_42 (dk_at dksX8_laidByLeader_0 14 rfl rfl)
theorem dX8_laidByLeader_15 : decode cX8_laidByLeader 15 = .ok (.iload_n 1, 1) := dk_27 (dk_at dksX8_laidByLeader_0 15 rfl rfl)
theorem dX8_laidByLeader_16 : decode cX8_laidByLeader 16 = .ok (.invokevirtual 314, 3) := dk_182 1 58 (dk_at dksX8_laidByLeader_0 16 rfl rfl)
theorem dX8_laidByLeader_19 : decode cX8_laidByLeader 19 = .ok (.aload_n 0, 1) := dk_42 (dk_at dksX8_laidByLeader_0 19 rfl rfl)
theorem dX8_laidByLeader_20 : decode cX8_laidByLeader 20 = .ok (.iload_n 1, 1) := dk_27 (dk_at dksX8_laidByLeader_0 20 rfl rfl)
theorem dX8_laidByLeader_21 : decode cX8_laidByLeader 21 = .ok (.invokevirtual 317, 3) := dk_182 1 61 (dk_at dksX8_laidByLeader_0 21 rfl rfl)
theorem dX8_laidByLeader_24 : decode cX8_laidByLeader 24 = .ok (.return_, 1) := dk_177 (dk_at dksX8_laidByLeader_1 0 rfl rfl)
abbrev cX8_sendsToAll : ByteArray := prog_18_method_64_code
def yX8_sendsToAll : MethodName := ⟨RX8, "sendsToAll", "(I)V"⟩
def dkwX8_sendsToAll_1 : List UInt8 := [153, 0, 9, 42, 27, 28, 182, 1, 33, 132, 2, 1, 167, 255, 224, 177]
abbrev dktX8_sendsToAll_1 : List UInt8 := dkwX8_sendsToAll_1 ++ []
def dkwX8_sendsToAll_0 : List UInt8 := [3, 61, 28, 16, 7, 162, 0, 32, 28, 27, 159, 0, 21, 42, 27, 182, 1, 27, 28, 184, 1, 30]
abbrev dktX8_sendsToAll_0 : List UInt8 := dkwX8_sendsToAll_0 ++ dktX8_sendsToAll_1
theorem dksX8_sendsToAll_0 : cX8_sendsToAll.data.toList.drop 0 = dktX8_sendsToAll_0 := by decide +kernel
theorem dksX8_sendsToAll_1 : cX8_sendsToAll.data.toList.drop 22 = dktX8_sendsToAll_1 := dk_seg dksX8_sendsToAll_0 22 rfl rfl
theorem dX8_sendsToAll_0 : decode cX8_sendsToAll 0 = .ok (.iconst 0, 1) := dk_3 (dk_at dksX8_sendsToAll_0 0 rfl rfl)
theorem dX8_sendsToAll_1 : decode cX8_sendsToAll 1 = .ok (.istore_n 2, 1) := dk_61 (dk_at dksX8_sendsToAll_0 1 rfl rfl)
theorem dX8_sendsToAll_2 : decode cX8_sendsToAll 2 = .ok (.iload_n 2, 1) := dk_28 (dk_at dksX8_sendsToAll_0 2 rfl rfl)
theorem dX8_sendsToAll_3 : decode cX8_sendsToAll 3 = .ok (.bipush 7, 2) := dk_16 7 (dk_at dksX8_sendsToAll_0 3 rfl rfl)
theorem dX8_sendsToAll_5 : decode cX8_sendsToAll 5 = .ok (.if_icmp .ge 32, 3) := dk_162 0 32 (dk_at dksX8_sendsToAll_0 5 rfl rfl)
theorem dX8_sendsToAll_8 : decode cX8_sendsToAll 8 = .ok (.iload_n 2, 1) := dk_28 (dk_at dksX8_sendsToAll_0 8 rfl rfl)
theorem dX8_sendsToAll_9 : decode cX8_sendsToAll 9 = .ok (.iload_n 1, 1) := dk_27 (dk_at dksX8_sendsToAll_0 9 rfl rfl)
theorem dX8_sendsToAll_10 : decode cX8_sendsToAll 10 = .ok (.if_icmp .eq 21, 3) := dk_159 0 21 (dk_at dksX8_sendsToAll_0 10 rfl rfl)
theorem dX8_sendsToAll_13 : decode cX8_sendsToAll 13 = .ok (.aload_n 0, 1) := dk_42 (dk_at dksX8_sendsToAll_0 13 rfl rfl)
theorem dX8_sendsToAll_14 : decode cX8_sendsToAll 14 = .ok (.iload_n 1, 1) := dk_27 (dk_at dksX8_sendsToAll_0 14 rfl rfl)
theorem dX8_sendsToAll_15 : decode cX8_sendsToAll 15 = .ok (.invokevirtual 283, 3) := dk_182 1 27 (dk_at dksX8_sendsToAll_0 15 rfl rfl)
theorem dX8_sendsToAll_18 : decode cX8_sendsToAll 18 = .ok (.iload_n 2, 1) := dk_28 (dk_at dksX8_sendsToAll_0 18 rfl rfl)
theorem dX8_sendsToAll_19 : decode cX8_sendsToAll 19 = .ok (.invokestatic 286, 3) := dk_184 1 30 (dk_at dksX8_sendsToAll_0 19 rfl rfl)
theorem dX8_sendsToAll_22 : decode cX8_sendsToAll 22 = .ok (.ifCond .eq 9, 3) := dk_153 0 9 (dk_at dksX8_sendsToAll_1 0 rfl rfl)
theorem dX8_sendsToAll_25 : decode cX8_sendsToAll 25 = .ok (.aload_n 0, 1) := dk_42 (dk_at dksX8_sendsToAll_1 3 rfl rfl)
theorem dX8_sendsToAll_26 : decode cX8_sendsToAll 26 = .ok (.iload_n 1, 1) := dk_27 (dk_at dksX8_sendsToAll_1 4 rfl rfl)
theorem dX8_sendsToAll_27 : decode cX8_sendsToAll 27 = .ok (.iload_n 2, 1) := dk_28 (dk_at dksX8_sendsToAll_1 5 rfl rfl)
theorem dX8_sendsToAll_28 : decode cX8_sendsToAll 28 = .ok (.invokevirtual 289, 3) := dk_182 1 33 (dk_at dksX8_sendsToAll_1 6 rfl rfl)
theorem dX8_sendsToAll_31 : decode cX8_sendsToAll 31 = .ok (.iinc 2 1, 3) := dk_132 2 1 (dk_at dksX8_sendsToAll_1 9 rfl rfl)
theorem dX8_sendsToAll_34 : decode cX8_sendsToAll 34 = .ok (.goto (-32), 3) := dk_167 255 224 (dk_at dksX8_sendsToAll_1 12 rfl rfl)
theorem dX8_sendsToAll_37 : decode cX8_sendsToAll 37 = .ok (.return_, 1) := dk_177 (dk_at dksX8_sendsToAll_1 15 rfl rfl)
abbrev cX8_membersOf : ByteArray := prog_18_method_20_code
def yX8_membersOf : MethodName := ⟨RX8, "membersOf", "(I)I"⟩
def dkwX8_membersOf_0 : List UInt8 := [42, 27, 182, 0, 121, 42, 27, 182, 0, 124, 128, 172]
abbrev dktX8_membersOf_0 : List UInt8 := dkwX8_membersOf_0 ++ []
theorem dksX8_membersOf_0 : cX8_membersOf.data.toList.drop 0 = dktX8_membersOf_0 := by decide +kernel
theorem dX8_membersOf_0 : decode cX8_membersOf 0 = .ok (.aload_n 0, 1) := dk_42 (dk_at dksX8_membersOf_0 0 rfl rfl)
theorem dX8_membersOf_1 : decode cX8_membersOf 1 = .ok (.iload_n 1, 1) := dk_27 (dk_at dksX8_membersOf_0 1 rfl rfl)
theorem dX8_membersOf_2 : decode cX8_membersOf 2 = .ok (.invokevirtual 121, 3) := dk_182 0 121 (dk_at dksX8_membersOf_0 2 rfl rfl)
theorem dX8_membersOf_5 : decode cX8_membersOf 5 = .ok (.aload_n 0, 1) := dk_42 (dk_at dksX8_membersOf_0 5 rfl rfl)
theorem dX8_membersOf_6 : decode cX8_membersOf 6 = .ok (.iload_n 1, 1) := dk_27 (dk_at dksX8_membersOf_0 6 rfl rfl)
theorem dX8_membersOf_7 : decode cX8_membersOf 7 = .ok (.invokevirtual 124, 3) := dk_182 0 124 (dk_at dksX8_membersOf_0 7 rfl rfl)
theorem dX8_membersOf_10 : decode cX8_membersOf 10 = .ok (.ior, 1) := dk_128 (dk_at dksX8_membersOf_0 10 rfl rfl)
theorem dX8_membersOf_11 : decode cX8_membersOf 11 = .ok (.ireturn, 1) := dk_172 (dk_at dksX8_membersOf_0 11 rfl rfl)
abbrev cX8_sendsOn : ByteArray := prog_18_method_61_code
def yX8_sendsOn : MethodName := ⟨RX8, "sendsOn", "(II)V"⟩
def dkwX8_sendsOn_3 : List UInt8 := [27, 29, 182, 1, 24, 42, 182, 1, 18, 177]
abbrev dktX8_sendsOn_3 : List UInt8 := dkwX8_sendsOn_3 ++ []
def dkwX8_sendsOn_2 : List UInt8 := [16, 10, 42, 27, 16, 13, 182, 0, 101, 79, 21, 4, 153, 0, 11, 42, 27, 182, 1, 21, 167, 0, 9, 42]
abbrev dktX8_sendsOn_2 : List UInt8 := dkwX8_sendsOn_2 ++ dktX8_sendsOn_3
def dkwX8_sendsOn_1 : List UInt8 := [3, 54, 4, 42, 27, 28, 21, 4, 153, 0, 7, 7, 167, 0, 4, 5, 182, 1, 15, 42, 180, 0, 19]
abbrev dktX8_sendsOn_1 : List UInt8 := dkwX8_sendsOn_1 ++ dktX8_sendsOn_2
def dkwX8_sendsOn_0 : List UInt8 := [42, 27, 16, 31, 28, 96, 182, 0, 101, 62, 29, 42, 27, 7, 182, 0, 101, 163, 0, 7, 4, 167, 0, 4]
abbrev dktX8_sendsOn_0 : List UInt8 := dkwX8_sendsOn_0 ++ dktX8_sendsOn_1
theorem dksX8_sendsOn_0 : cX8_sendsOn.data.toList.drop 0 = dktX8_sendsOn_0 := by decide +kernel
theorem dksX8_sendsOn_1 : cX8_sendsOn.data.toList.drop 24 = dktX8_sendsOn_1 := dk_seg dksX8_sendsOn_0 24 rfl rfl
theorem dksX8_sendsOn_2 : cX8_sendsOn.data.toList.drop 47 = dktX8_sendsOn_2 := dk_seg dksX8_sendsOn_1 23 rfl rfl
theorem dksX8_sendsOn_3 : cX8_sendsOn.data.toList.drop 71 = dktX8_sendsOn_3 := dk_seg dksX8_sendsOn_2 24 rfl rfl
theorem dX8_sendsOn_0 : decode cX8_sendsOn 0 = .ok (.aload_n 0, 1) := dk_42 (dk_at dksX8_sendsOn_0 0 rfl rfl)
theorem dX8_sendsOn_1 : decode cX8_sendsOn 1 = .ok (.iload_n 1, 1) := dk_27 (dk_at dksX8_sendsOn_0 1 rfl rfl)
theorem dX8_sendsOn_2 : decode cX8_sendsOn 2 = .ok (.bipush 31, 2) := dk_16 31 (dk_at dksX8_sendsOn_0 2 rfl rfl)
theorem dX8_sendsOn_4 : decode cX8_sendsOn 4 = .ok (.iload_n 2, 1) := dk_28 (dk_at dksX8_sendsOn_0 4 rfl rfl)
theorem dX8_sendsOn_5 : decode cX8_sendsOn 5 = .ok (.iadd, 1) := dk_96 (dk_at dksX8_sendsOn_0 5 rfl rfl)
theorem dX8_sendsOn_6 : decode cX8_sendsOn 6 = .ok (.invokevirtual 101, 3) := dk_182 0 101 (dk_at dksX8_sendsOn_0 6 rfl rfl)
theorem dX8_sendsOn_9 : decode cX8_sendsOn 9 = .ok (.istore_n 3, 1) := dk_62 (dk_at dksX8_sendsOn_0 9 rfl rfl)
theorem dX8_sendsOn_10 : decode cX8_sendsOn 10 = .ok (.iload_n 3, 1) := dk_29 (dk_at dksX8_sendsOn_0 10 rfl rfl)
theorem dX8_sendsOn_11 : decode cX8_sendsOn 11 = .ok (.aload_n 0, 1) := dk_42 (dk_at dksX8_sendsOn_0 11 rfl rfl)
theorem dX8_sendsOn_12 : decode cX8_sendsOn 12 = .ok (.iload_n 1, 1) := dk_27 (dk_at dksX8_sendsOn_0 12 rfl rfl)
theorem dX8_sendsOn_13 : decode cX8_sendsOn 13 = .ok (.iconst 4, 1) := dk_7 (dk_at dksX8_sendsOn_0 13 rfl rfl)
theorem dX8_sendsOn_14 : decode cX8_sendsOn 14 = .ok (.invokevirtual 101, 3) := dk_182 0 101 (dk_at dksX8_sendsOn_0 14 rfl rfl)
theorem dX8_sendsOn_17 : decode cX8_sendsOn 17 = .ok (.if_icmp .gt 7, 3) := dk_163 0 7 (dk_at dksX8_sendsOn_0 17 rfl rfl)
theorem dX8_sendsOn_20 : decode cX8_sendsOn 20 = .ok (.iconst 1, 1) := dk_4 (dk_at dksX8_sendsOn_0 20 rfl rfl)
theorem dX8_sendsOn_21 : decode cX8_sendsOn 21 = .ok (.goto 4, 3) := dk_167 0 4 (dk_at dksX8_sendsOn_0 21 rfl rfl)
theorem dX8_sendsOn_24 : decode cX8_sendsOn 24 = .ok (.iconst 0, 1) := dk_3 (dk_at dksX8_sendsOn_1 0 rfl rfl)
theorem dX8_sendsOn_25 : decode cX8_sendsOn 25 = .ok (.istore 4, 2) := dk_54 4 (dk_at dksX8_sendsOn_1 1 rfl rfl)
theorem dX8_sendsOn_27 : decode cX8_sendsOn 27 = .ok (.aload_n 0, 1) := dk_42 (dk_at dksX8_sendsOn_1 3 rfl rfl)
theorem dX8_sendsOn_28 : decode cX8_sendsOn 28 = .ok (.iload_n 1, 1) := dk_27 (dk_at dksX8_sendsOn_1 4 rfl rfl)
theorem dX8_sendsOn_29 : decode cX8_sendsOn 29 = .ok (.iload_n 2, 1) := dk_28 (dk_at dksX8_sendsOn_1 5 rfl rfl)
theorem dX8_sendsOn_30 : decode cX8_sendsOn 30 = .ok (.iload 4, 2) := dk_21 4 (dk_at dksX8_sendsOn_1 6 rfl rfl)
theorem dX8_sendsOn_32 : decode cX8_sendsOn 32 = .ok (.ifCond .eq 7, 3) := dk_153 0 7 (dk_at dksX8_sendsOn_1 8 rfl rfl)
theorem dX8_sendsOn_35 : decode cX8_sendsOn 35 = .ok (.iconst 4, 1) := dk_7 (dk_at dksX8_sendsOn_1 11 rfl rfl)
theorem dX8_sendsOn_36 : decode cX8_sendsOn 36 = .ok (.goto 4, 3) := dk_167 0 4 (dk_at dksX8_sendsOn_1 12 rfl rfl)
theorem dX8_sendsOn_39 : decode cX8_sendsOn 39 = .ok (.iconst 2, 1) := dk_5 (dk_at dksX8_sendsOn_1 15 rfl rfl)
theorem dX8_sendsOn_40 : decode cX8_sendsOn 40 = .ok (.invokevirtual 271, 3) := dk_182 1 15 (dk_at dksX8_sendsOn_1 16 rfl rfl)
theorem dX8_sendsOn_43 : decode cX8_sendsOn 43 = .ok (.aload_n 0, 1) := dk_42 (dk_at dksX8_sendsOn_1 19 rfl rfl)
theorem dX8_sendsOn_44 : decode cX8_sendsOn 44 = .ok (.getfield 19, 3) := dk_180 0 19 (dk_at dksX8_sendsOn_1 20 rfl rfl)
theorem dX8_sendsOn_47 : decode cX8_sendsOn 47 = .ok (.bipush 10, 2) := dk_16 10 (dk_at dksX8_sendsOn_2 0 rfl rfl)
theorem dX8_sendsOn_49 : decode cX8_sendsOn 49 = .ok (.aload_n 0, 1) := dk_42 (dk_at dksX8_sendsOn_2 2 rfl rfl)
theorem dX8_sendsOn_50 : decode cX8_sendsOn 50 = .ok (.iload_n 1, 1) := dk_27 (dk_at dksX8_sendsOn_2 3 rfl rfl)
theorem dX8_sendsOn_51 : decode cX8_sendsOn 51 = .ok (.bipush 13, 2) := dk_16 13 (dk_at dksX8_sendsOn_2 4 rfl rfl)
theorem dX8_sendsOn_53 : decode cX8_sendsOn 53 = .ok (.invokevirtual 101, 3) := dk_182 0 101 (dk_at dksX8_sendsOn_2 6 rfl rfl)
theorem dX8_sendsOn_56 : decode cX8_sendsOn 56 = .ok (.iastore, 1) := dk_79 (dk_at dksX8_sendsOn_2 9 rfl rfl)
theorem dX8_sendsOn_57 : decode cX8_sendsOn 57 = .ok (.iload 4, 2) := dk_21 4 (dk_at dksX8_sendsOn_2 10 rfl rfl)
theorem dX8_sendsOn_59 : decode cX8_sendsOn 59 = .ok (.ifCond .eq 11, 3) := dk_153 0 11 (dk_at dksX8_sendsOn_2 12 rfl rfl)
theorem dX8_sendsOn_62 : decode cX8_sendsOn 62 = .ok (.aload_n 0, 1) := dk_42 (dk_at dksX8_sendsOn_2 15 rfl rfl)
theorem dX8_sendsOn_63 : decode cX8_sendsOn 63 = .ok (.iload_n 1, 1) := dk_27 (dk_at dksX8_sendsOn_2 16 rfl rfl)
theorem dX8_sendsOn_64 : decode cX8_sendsOn 64 = .ok (.invokevirtual 277, 3) := dk_182 1 21 (dk_at dksX8_sendsOn_2 17 rfl rfl)
theorem dX8_sendsOn_67 : decode cX8_sendsOn 67 = .ok (.goto 9, 3) := dk_167 0 9 (dk_at dksX8_sendsOn_2 20 rfl rfl)
theorem dX8_sendsOn_70 : decode cX8_sendsOn 70 = .ok (.aload_n 0, 1) := dk_42 (dk_at dksX8_sendsOn_2 23 rfl rfl)
theorem dX8_sendsOn_71 : decode cX8_sendsOn 71 = .ok (.iload_n 1, 1) := dk_27 (dk_at dksX8_sendsOn_3 0 rfl rfl)
theorem dX8_sendsOn_72 : decode cX8_sendsOn 72 = .ok (.iload_n 3, 1) := dk_29 (dk_at dksX8_sendsOn_3 1 rfl rfl)
theorem dX8_sendsOn_73 : decode cX8_sendsOn 73 = .ok (.invokevirtual 280, 3) := dk_182 1 24 (dk_at dksX8_sendsOn_3 2 rfl rfl)
theorem dX8_sendsOn_76 : decode cX8_sendsOn 76 = .ok (.aload_n 0, 1) := dk_42 (dk_at dksX8_sendsOn_3 5 rfl rfl)
theorem dX8_sendsOn_77 : decode cX8_sendsOn 77 = .ok (.invokevirtual 274, 3) := dk_182 1 18 (dk_at dksX8_sendsOn_3 6 rfl rfl)
theorem dX8_sendsOn_80 : decode cX8_sendsOn 80 = .ok (.return_, 1) := dk_177 (dk_at dksX8_sendsOn_3 9 rfl rfl)
abbrev cX8_tellsSnapshot : ByteArray := prog_18_method_62_code
def yX8_tellsSnapshot : MethodName := ⟨RX8, "tellsSnapshot", "(I)V"⟩
def dkwX8_tellsSnapshot_3 : List UInt8 := [42, 27, 16, 23, 28, 96, 182, 0, 101, 79, 132, 2, 1, 167, 255, 229, 177]
abbrev dktX8_tellsSnapshot_3 : List UInt8 := dkwX8_tellsSnapshot_3 ++ []
def dkwX8_tellsSnapshot_2 : List UInt8 := [42, 27, 16, 7, 182, 0, 101, 79, 3, 61, 28, 16, 8, 162, 0, 27, 42, 180, 0, 19, 16, 11, 28, 96]
abbrev dktX8_tellsSnapshot_2 : List UInt8 := dkwX8_tellsSnapshot_2 ++ dktX8_tellsSnapshot_3
def dkwX8_tellsSnapshot_1 : List UInt8 := [182, 0, 101, 79, 42, 180, 0, 19, 16, 8, 42, 27, 16, 6, 182, 0, 101, 79, 42, 180, 0, 19, 16, 9]
abbrev dktX8_tellsSnapshot_1 : List UInt8 := dkwX8_tellsSnapshot_1 ++ dktX8_tellsSnapshot_2
def dkwX8_tellsSnapshot_0 : List UInt8 := [42, 180, 0, 19, 16, 6, 42, 27, 7, 182, 0, 101, 79, 42, 180, 0, 19, 16, 7, 42, 27, 8]
abbrev dktX8_tellsSnapshot_0 : List UInt8 := dkwX8_tellsSnapshot_0 ++ dktX8_tellsSnapshot_1
theorem dksX8_tellsSnapshot_0 : cX8_tellsSnapshot.data.toList.drop 0 = dktX8_tellsSnapshot_0 := by decide +kernel
theorem dksX8_tellsSnapshot_1 : cX8_tellsSnapshot.data.toList.drop 22 = dktX8_tellsSnapshot_1 := dk_seg dksX8_tellsSnapshot_0 22 rfl rfl
theorem dksX8_tellsSnapshot_2 : cX8_tellsSnapshot.data.toList.drop 46 = dktX8_tellsSnapshot_2 := dk_seg dksX8_tellsSnapshot_1 24 rfl rfl
theorem dksX8_tellsSnapshot_3 : cX8_tellsSnapshot.data.toList.drop 70 = dktX8_tellsSnapshot_3 := dk_seg dksX8_tellsSnapshot_2 24 rfl rfl
theorem dX8_tellsSnapshot_0 : decode cX8_tellsSnapshot 0 = .ok (.aload_n 0, 1) := dk_42 (dk_at dksX8_tellsSnapshot_0 0 rfl rfl)
theorem dX8_tellsSnapshot_1 : decode cX8_tellsSnapshot 1 = .ok (.getfield 19, 3) := dk_180 0 19 (dk_at dksX8_tellsSnapshot_0 1 rfl rfl)
theorem dX8_tellsSnapshot_4 : decode cX8_tellsSnapshot 4 = .ok (.bipush 6, 2) := dk_16 6 (dk_at dksX8_tellsSnapshot_0 4 rfl rfl)
theorem dX8_tellsSnapshot_6 : decode cX8_tellsSnapshot 6 = .ok (.aload_n 0, 1) := dk_42 (dk_at dksX8_tellsSnapshot_0 6 rfl rfl)
theorem dX8_tellsSnapshot_7 : decode cX8_tellsSnapshot 7 = .ok (.iload_n 1, 1) := dk_27 (dk_at dksX8_tellsSnapshot_0 7 rfl rfl)
theorem dX8_tellsSnapshot_8 : decode cX8_tellsSnapshot 8 = .ok (.iconst 4, 1) := dk_7 (dk_at dksX8_tellsSnapshot_0 8 rfl rfl)
theorem dX8_tellsSnapshot_9 : decode cX8_tellsSnapshot 9 = .ok (.invokevirtual 101, 3) := dk_182 0 101 (dk_at dksX8_tellsSnapshot_0 9 rfl rfl)
theorem dX8_tellsSnapshot_12 : decode cX8_tellsSnapshot 12 = .ok (.iastore, 1) := dk_79 (dk_at dksX8_tellsSnapshot_0 12 rfl rfl)
theorem dX8_tellsSnapshot_13 : decode cX8_tellsSnapshot 13 = .ok (.aload_n 0, 1) := dk_42 (dk_at dksX8_tellsSnapshot_0 13 rfl rfl)
theorem dX8_tellsSnapshot_14 : decode cX8_tellsSnapshot 14 = .ok (.getfield 19, 3) := dk_180 0 19 (dk_at dksX8_tellsSnapshot_0 14 rfl rfl)
theorem dX8_tellsSnapshot_17 : decode cX8_tellsSnapshot 17 = .ok (.bipush 7, 2) := dk_16 7 (dk_at dksX8_tellsSnapshot_0 17 rfl rfl)
theorem dX8_tellsSnapshot_19 : decode cX8_tellsSnapshot 19 = .ok (.aload_n 0, 1) := dk_42 (dk_at dksX8_tellsSnapshot_0 19 rfl rfl)
theorem dX8_tellsSnapshot_20 : decode cX8_tellsSnapshot 20 = .ok (.iload_n 1, 1) := dk_27 (dk_at dksX8_tellsSnapshot_0 20 rfl rfl)
theorem dX8_tellsSnapshot_21 : decode cX8_tellsSnapshot 21 = .ok (.iconst 5, 1) := dk_8 (dk_at dksX8_tellsSnapshot_0 21 rfl rfl)
theorem dX8_tellsSnapshot_22 : decode cX8_tellsSnapshot 22 = .ok (.invokevirtual 101, 3) := dk_182 0 101 (dk_at dksX8_tellsSnapshot_1 0 rfl rfl)
theorem dX8_tellsSnapshot_25 : decode cX8_tellsSnapshot 25 = .ok (.iastore, 1) := dk_79 (dk_at dksX8_tellsSnapshot_1 3 rfl rfl)
theorem dX8_tellsSnapshot_26 : decode cX8_tellsSnapshot 26 = .ok (.aload_n 0, 1) := dk_42 (dk_at dksX8_tellsSnapshot_1 4 rfl rfl)
theorem dX8_tellsSnapshot_27 : decode cX8_tellsSnapshot 27 = .ok (.getfield 19, 3) := dk_180 0 19 (dk_at dksX8_tellsSnapshot_1 5 rfl rfl)
theorem dX8_tellsSnapshot_30 : decode cX8_tellsSnapshot 30 = .ok (.bipush 8, 2) := dk_16 8 (dk_at dksX8_tellsSnapshot_1 8 rfl rfl)
theorem dX8_tellsSnapshot_32 : decode cX8_tellsSnapshot 32 = .ok (.aload_n 0, 1) := dk_42 (dk_at dksX8_tellsSnapshot_1 10 rfl rfl)
theorem dX8_tellsSnapshot_33 : decode cX8_tellsSnapshot 33 = .ok (.iload_n 1, 1) := dk_27 (dk_at dksX8_tellsSnapshot_1 11 rfl rfl)
theorem dX8_tellsSnapshot_34 : decode cX8_tellsSnapshot 34 = .ok (.bipush 6, 2) := dk_16 6 (dk_at dksX8_tellsSnapshot_1 12 rfl rfl)
theorem dX8_tellsSnapshot_36 : decode cX8_tellsSnapshot 36 = .ok (.invokevirtual 101, 3) := dk_182 0 101 (dk_at dksX8_tellsSnapshot_1 14 rfl rfl)
theorem dX8_tellsSnapshot_39 : decode cX8_tellsSnapshot 39 = .ok (.iastore, 1) := dk_79 (dk_at dksX8_tellsSnapshot_1 17 rfl rfl)
theorem dX8_tellsSnapshot_40 : decode cX8_tellsSnapshot 40 = .ok (.aload_n 0, 1) := dk_42 (dk_at dksX8_tellsSnapshot_1 18 rfl rfl)
theorem dX8_tellsSnapshot_41 : decode cX8_tellsSnapshot 41 = .ok (.getfield 19, 3) := dk_180 0 19 (dk_at dksX8_tellsSnapshot_1 19 rfl rfl)
theorem dX8_tellsSnapshot_44 : decode cX8_tellsSnapshot 44 = .ok (.bipush 9, 2) := dk_16 9 (dk_at dksX8_tellsSnapshot_1 22 rfl rfl)
theorem dX8_tellsSnapshot_46 : decode cX8_tellsSnapshot 46 = .ok (.aload_n 0, 1) := dk_42 (dk_at dksX8_tellsSnapshot_2 0 rfl rfl)
theorem dX8_tellsSnapshot_47 : decode cX8_tellsSnapshot 47 = .ok (.iload_n 1, 1) := dk_27 (dk_at dksX8_tellsSnapshot_2 1 rfl rfl)
theorem dX8_tellsSnapshot_48 : decode cX8_tellsSnapshot 48 = .ok (.bipush 7, 2) := dk_16 7 (dk_at dksX8_tellsSnapshot_2 2 rfl rfl)
theorem dX8_tellsSnapshot_50 : decode cX8_tellsSnapshot 50 = .ok (.invokevirtual 101, 3) := dk_182 0 101 (dk_at dksX8_tellsSnapshot_2 4 rfl rfl)
theorem dX8_tellsSnapshot_53 : decode cX8_tellsSnapshot 53 = .ok (.iastore, 1) := dk_79 (dk_at dksX8_tellsSnapshot_2 7 rfl rfl)
theorem dX8_tellsSnapshot_54 : decode cX8_tellsSnapshot 54 = .ok (.iconst 0, 1) := dk_3 (dk_at dksX8_tellsSnapshot_2 8 rfl rfl)
theorem dX8_tellsSnapshot_55 : decode cX8_tellsSnapshot 55 = .ok (.istore_n 2, 1) := dk_61 (dk_at dksX8_tellsSnapshot_2 9 rfl rfl)
theorem dX8_tellsSnapshot_56 : decode cX8_tellsSnapshot 56 = .ok (.iload_n 2, 1) := dk_28 (dk_at dksX8_tellsSnapshot_2 10 rfl rfl)
theorem dX8_tellsSnapshot_57 : decode cX8_tellsSnapshot 57 = .ok (.bipush 8, 2) := dk_16 8 (dk_at dksX8_tellsSnapshot_2 11 rfl rfl)
theorem dX8_tellsSnapshot_59 : decode cX8_tellsSnapshot 59 = .ok (.if_icmp .ge 27, 3) := dk_162 0 27 (dk_at dksX8_tellsSnapshot_2 13 rfl rfl)
theorem dX8_tellsSnapshot_62 : decode cX8_tellsSnapshot 62 = .ok (.aload_n 0, 1) := dk_42 (dk_at dksX8_tellsSnapshot_2 16 rfl rfl)
theorem dX8_tellsSnapshot_63 : decode cX8_tellsSnapshot 63 = .ok (.getfield 19, 3) := dk_180 0 19 (dk_at dksX8_tellsSnapshot_2 17 rfl rfl)
theorem dX8_tellsSnapshot_66 : decode cX8_tellsSnapshot 66 = .ok (.bipush 11, 2) := dk_16 11 (dk_at dksX8_tellsSnapshot_2 20 rfl rfl)
theorem dX8_tellsSnapshot_68 : decode cX8_tellsSnapshot 68 = .ok (.iload_n 2, 1) := dk_28 (dk_at dksX8_tellsSnapshot_2 22 rfl rfl)
theorem dX8_tellsSnapshot_69 : decode cX8_tellsSnapshot 69 = .ok (.iadd, 1) := dk_96 (dk_at dksX8_tellsSnapshot_2 23 rfl rfl)
theorem dX8_tellsSnapshot_70 : decode cX8_tellsSnapshot 70 = .ok (.aload_n 0, 1) := dk_42 (dk_at dksX8_tellsSnapshot_3 0 rfl rfl)
theorem dX8_tellsSnapshot_71 : decode cX8_tellsSnapshot 71 = .ok (.iload_n 1, 1) := dk_27 (dk_at dksX8_tellsSnapshot_3 1 rfl rfl)
theorem dX8_tellsSnapshot_72 : decode cX8_tellsSnapshot 72 = .ok (.bipush 23, 2) := dk_16 23 (dk_at dksX8_tellsSnapshot_3 2 rfl rfl)
theorem dX8_tellsSnapshot_74 : decode cX8_tellsSnapshot 74 = .ok (.iload_n 2, 1) := dk_28 (dk_at dksX8_tellsSnapshot_3 4 rfl rfl)
theorem dX8_tellsSnapshot_75 : decode cX8_tellsSnapshot 75 = .ok (.iadd, 1) := dk_96 (dk_at dksX8_tellsSnapshot_3 5 rfl rfl)
theorem dX8_tellsSnapshot_76 : decode cX8_tellsSnapshot 76 = .ok (.invokevirtual 101, 3) := dk_182 0 101 (dk_at dksX8_tellsSnapshot_3 6 rfl rfl)
theorem dX8_tellsSnapshot_79 : decode cX8_tellsSnapshot 79 = .ok (.iastore, 1) := dk_79 (dk_at dksX8_tellsSnapshot_3 9 rfl rfl)
theorem dX8_tellsSnapshot_80 : decode cX8_tellsSnapshot 80 = .ok (.iinc 2 1, 3) := dk_132 2 1 (dk_at dksX8_tellsSnapshot_3 10 rfl rfl)
theorem dX8_tellsSnapshot_83 : decode cX8_tellsSnapshot 83 = .ok (.goto (-27), 3) := dk_167 255 229 (dk_at dksX8_tellsSnapshot_3 13 rfl rfl)
theorem dX8_tellsSnapshot_86 : decode cX8_tellsSnapshot 86 = .ok (.return_, 1) := dk_177 (dk_at dksX8_tellsSnapshot_3 16 rfl rfl)
abbrev cX8_tellsEntries : ByteArray := prog_18_method_63_code
def yX8_tellsEntries : MethodName := ⟨RX8, "tellsEntries", "(II)V"⟩
def dkwX8_tellsEntries_4 : List UInt8 := [96, 46, 79, 132, 4, 1, 167, 255, 221, 177]
abbrev dktX8_tellsEntries_4 : List UInt8 := dkwX8_tellsEntries_4 ++ []
def dkwX8_tellsEntries_3 : List UInt8 := [162, 0, 33, 42, 180, 0, 19, 16, 11, 21, 4, 96, 42, 180, 0, 7, 42, 27, 28, 182, 0, 112, 21, 4]
abbrev dktX8_tellsEntries_3 : List UInt8 := dkwX8_tellsEntries_3 ++ dktX8_tellsEntries_4
def dkwX8_tellsEntries_2 : List UInt8 := [4, 96, 184, 0, 115, 184, 0, 130, 62, 42, 180, 0, 19, 8, 29, 79, 3, 54, 4, 21, 4, 7, 29, 104]
abbrev dktX8_tellsEntries_2 : List UInt8 := dkwX8_tellsEntries_2 ++ dktX8_tellsEntries_3
def dkwX8_tellsEntries_1 : List UInt8 := [79, 42, 180, 0, 19, 16, 8, 42, 27, 16, 9, 182, 0, 101, 79, 3, 7, 42, 27, 182, 0, 108, 28, 100]
abbrev dktX8_tellsEntries_1 : List UInt8 := dkwX8_tellsEntries_1 ++ dktX8_tellsEntries_2
def dkwX8_tellsEntries_0 : List UInt8 := [42, 180, 0, 19, 16, 6, 28, 4, 100, 79, 42, 180, 0, 19, 16, 7, 42, 27, 28, 4, 100, 182, 0, 137]
abbrev dktX8_tellsEntries_0 : List UInt8 := dkwX8_tellsEntries_0 ++ dktX8_tellsEntries_1
theorem dksX8_tellsEntries_0 : cX8_tellsEntries.data.toList.drop 0 = dktX8_tellsEntries_0 := by decide +kernel
theorem dksX8_tellsEntries_1 : cX8_tellsEntries.data.toList.drop 24 = dktX8_tellsEntries_1 := dk_seg dksX8_tellsEntries_0 24 rfl rfl
theorem dksX8_tellsEntries_2 : cX8_tellsEntries.data.toList.drop 48 = dktX8_tellsEntries_2 := dk_seg dksX8_tellsEntries_1 24 rfl rfl
theorem dksX8_tellsEntries_3 : cX8_tellsEntries.data.toList.drop 72 = dktX8_tellsEntries_3 := dk_seg dksX8_tellsEntries_2 24 rfl rfl
theorem dksX8_tellsEntries_4 : cX8_tellsEntries.data.toList.drop 96 = dktX8_tellsEntries_4 := dk_seg dksX8_tellsEntries_3 24 rfl rfl
theorem dX8_tellsEntries_0 : decode cX8_tellsEntries 0 = .ok (.aload_n 0, 1) := dk_42 (dk_at dksX8_tellsEntries_0 0 rfl rfl)
theorem dX8_tellsEntries_1 : decode cX8_tellsEntries 1 = .ok (.getfield 19, 3) := dk_180 0 19 (dk_at dksX8_tellsEntries_0 1 rfl rfl)
theorem dX8_tellsEntries_4 : decode cX8_tellsEntries 4 = .ok (.bipush 6, 2) := dk_16 6 (dk_at dksX8_tellsEntries_0 4 rfl rfl)
theorem dX8_tellsEntries_6 : decode cX8_tellsEntries 6 = .ok (.iload_n 2, 1) := dk_28 (dk_at dksX8_tellsEntries_0 6 rfl rfl)
theorem dX8_tellsEntries_7 : decode cX8_tellsEntries 7 = .ok (.iconst 1, 1) := dk_4 (dk_at dksX8_tellsEntries_0 7 rfl rfl)
theorem dX8_tellsEntries_8 : decode cX8_tellsEntries 8 = .ok (.isub, 1) := dk_100 (dk_at dksX8_tellsEntries_0 8 rfl rfl)
theorem dX8_tellsEntries_9 : decode cX8_tellsEntries 9 = .ok (.iastore, 1) := dk_79 (dk_at dksX8_tellsEntries_0 9 rfl rfl)
theorem dX8_tellsEntries_10 : decode cX8_tellsEntries 10 = .ok (.aload_n 0, 1) := dk_42 (dk_at dksX8_tellsEntries_0 10 rfl rfl)
theorem dX8_tellsEntries_11 : decode cX8_tellsEntries 11 = .ok (.getfield 19, 3) := dk_180 0 19 (dk_at dksX8_tellsEntries_0 11 rfl rfl)
theorem dX8_tellsEntries_14 : decode cX8_tellsEntries 14 = .ok (.bipush 7, 2) := dk_16 7 (dk_at dksX8_tellsEntries_0 14 rfl rfl)
theorem dX8_tellsEntries_16 : decode cX8_tellsEntries 16 = .ok (.aload_n 0, 1) := dk_42 (dk_at dksX8_tellsEntries_0 16 rfl rfl)
theorem dX8_tellsEntries_17 : decode cX8_tellsEntries 17 = .ok (.iload_n 1, 1) := dk_27 (dk_at dksX8_tellsEntries_0 17 rfl rfl)
theorem dX8_tellsEntries_18 : decode cX8_tellsEntries 18 = .ok (.iload_n 2, 1) := dk_28 (dk_at dksX8_tellsEntries_0 18 rfl rfl)
theorem dX8_tellsEntries_19 : decode cX8_tellsEntries 19 = .ok (.iconst 1, 1) := dk_4 (dk_at dksX8_tellsEntries_0 19 rfl rfl)
theorem dX8_tellsEntries_20 : decode cX8_tellsEntries 20 = .ok (.isub, 1) := dk_100 (dk_at dksX8_tellsEntries_0 20 rfl rfl)
theorem dX8_tellsEntries_21 : decode cX8_tellsEntries 21 = .ok (.invokevirtual 137, 3) := dk_182 0 137 (dk_at dksX8_tellsEntries_0 21 rfl rfl)
theorem dX8_tellsEntries_24 : decode cX8_tellsEntries 24 = .ok (.iastore, 1) := dk_79 (dk_at dksX8_tellsEntries_1 0 rfl rfl)
theorem dX8_tellsEntries_25 : decode cX8_tellsEntries 25 = .ok (.aload_n 0, 1) := dk_42 (dk_at dksX8_tellsEntries_1 1 rfl rfl)
theorem dX8_tellsEntries_26 : decode cX8_tellsEntries 26 = .ok (.getfield 19, 3) := dk_180 0 19 (dk_at dksX8_tellsEntries_1 2 rfl rfl)
theorem dX8_tellsEntries_29 : decode cX8_tellsEntries 29 = .ok (.bipush 8, 2) := dk_16 8 (dk_at dksX8_tellsEntries_1 5 rfl rfl)
theorem dX8_tellsEntries_31 : decode cX8_tellsEntries 31 = .ok (.aload_n 0, 1) := dk_42 (dk_at dksX8_tellsEntries_1 7 rfl rfl)
theorem dX8_tellsEntries_32 : decode cX8_tellsEntries 32 = .ok (.iload_n 1, 1) := dk_27 (dk_at dksX8_tellsEntries_1 8 rfl rfl)
theorem dX8_tellsEntries_33 : decode cX8_tellsEntries 33 = .ok (.bipush 9, 2) := dk_16 9 (dk_at dksX8_tellsEntries_1 9 rfl rfl)
theorem dX8_tellsEntries_35 : decode cX8_tellsEntries 35 = .ok (.invokevirtual 101, 3) := dk_182 0 101 (dk_at dksX8_tellsEntries_1 11 rfl rfl)
theorem dX8_tellsEntries_38 : decode cX8_tellsEntries 38 = .ok (.iastore, 1) := dk_79 (dk_at dksX8_tellsEntries_1 14 rfl rfl)
theorem dX8_tellsEntries_39 : decode cX8_tellsEntries 39 = .ok (.iconst 0, 1) := dk_3 (dk_at dksX8_tellsEntries_1 15 rfl rfl)
theorem dX8_tellsEntries_40 : decode cX8_tellsEntries 40 = .ok (.iconst 4, 1) := dk_7 (dk_at dksX8_tellsEntries_1 16 rfl rfl)
theorem dX8_tellsEntries_41 : decode cX8_tellsEntries 41 = .ok (.aload_n 0, 1) := dk_42 (dk_at dksX8_tellsEntries_1 17 rfl rfl)
theorem dX8_tellsEntries_42 : decode cX8_tellsEntries 42 = .ok (.iload_n 1, 1) := dk_27 (dk_at dksX8_tellsEntries_1 18 rfl rfl)
theorem dX8_tellsEntries_43 : decode cX8_tellsEntries 43 = .ok (.invokevirtual 108, 3) := dk_182 0 108 (dk_at dksX8_tellsEntries_1 19 rfl rfl)
theorem dX8_tellsEntries_46 : decode cX8_tellsEntries 46 = .ok (.iload_n 2, 1) := dk_28 (dk_at dksX8_tellsEntries_1 22 rfl rfl)
theorem dX8_tellsEntries_47 : decode cX8_tellsEntries 47 = .ok (.isub, 1) := dk_100 (dk_at dksX8_tellsEntries_1 23 rfl rfl)
theorem dX8_tellsEntries_48 : decode cX8_tellsEntries 48 = .ok (.iconst 1, 1) := dk_4 (dk_at dksX8_tellsEntries_2 0 rfl rfl)
theorem dX8_tellsEntries_49 : decode cX8_tellsEntries 49 = .ok (.iadd, 1) := dk_96 (dk_at dksX8_tellsEntries_2 1 rfl rfl)
theorem dX8_tellsEntries_50 : decode cX8_tellsEntries 50 = .ok (.invokestatic 115, 3) := dk_184 0 115 (dk_at dksX8_tellsEntries_2 2 rfl rfl)
theorem dX8_tellsEntries_53 : decode cX8_tellsEntries 53 = .ok (.invokestatic 130, 3) := dk_184 0 130 (dk_at dksX8_tellsEntries_2 5 rfl rfl)
theorem dX8_tellsEntries_56 : decode cX8_tellsEntries 56 = .ok (.istore_n 3, 1) := dk_62 (dk_at dksX8_tellsEntries_2 8 rfl rfl)
theorem dX8_tellsEntries_57 : decode cX8_tellsEntries 57 = .ok (.aload_n 0, 1) := dk_42 (dk_at dksX8_tellsEntries_2 9 rfl rfl)
theorem dX8_tellsEntries_58 : decode cX8_tellsEntries 58 = .ok (.getfield 19, 3) := dk_180 0 19 (dk_at dksX8_tellsEntries_2 10 rfl rfl)
theorem dX8_tellsEntries_61 : decode cX8_tellsEntries 61 = .ok (.iconst 5, 1) := dk_8 (dk_at dksX8_tellsEntries_2 13 rfl rfl)
theorem dX8_tellsEntries_62 : decode cX8_tellsEntries 62 = .ok (.iload_n 3, 1) := dk_29 (dk_at dksX8_tellsEntries_2 14 rfl rfl)
theorem dX8_tellsEntries_63 : decode cX8_tellsEntries 63 = .ok (.iastore, 1) := dk_79 (dk_at dksX8_tellsEntries_2 15 rfl rfl)
theorem dX8_tellsEntries_64 : decode cX8_tellsEntries 64 = .ok (.iconst 0, 1) := dk_3 (dk_at dksX8_tellsEntries_2 16 rfl rfl)
theorem dX8_tellsEntries_65 : decode cX8_tellsEntries 65 = .ok (.istore 4, 2) := dk_54 4 (dk_at dksX8_tellsEntries_2 17 rfl rfl)
theorem dX8_tellsEntries_67 : decode cX8_tellsEntries 67 = .ok (.iload 4, 2) := dk_21 4 (dk_at dksX8_tellsEntries_2 19 rfl rfl)
theorem dX8_tellsEntries_69 : decode cX8_tellsEntries 69 = .ok (.iconst 4, 1) := dk_7 (dk_at dksX8_tellsEntries_2 21 rfl rfl)
theorem dX8_tellsEntries_70 : decode cX8_tellsEntries 70 = .ok (.iload_n 3, 1) := dk_29 (dk_at dksX8_tellsEntries_2 22 rfl rfl)
theorem dX8_tellsEntries_71 : decode cX8_tellsEntries 71 = .ok (.imul, 1) := dk_104 (dk_at dksX8_tellsEntries_2 23 rfl rfl)
theorem dX8_tellsEntries_72 : decode cX8_tellsEntries 72 = .ok (.if_icmp .ge 33, 3) := dk_162 0 33 (dk_at dksX8_tellsEntries_3 0 rfl rfl)
theorem dX8_tellsEntries_75 : decode cX8_tellsEntries 75 = .ok (.aload_n 0, 1) := dk_42 (dk_at dksX8_tellsEntries_3 3 rfl rfl)
theorem dX8_tellsEntries_76 : decode cX8_tellsEntries 76 = .ok (.getfield 19, 3) := dk_180 0 19 (dk_at dksX8_tellsEntries_3 4 rfl rfl)
theorem dX8_tellsEntries_79 : decode cX8_tellsEntries 79 = .ok (.bipush 11, 2) := dk_16 11 (dk_at dksX8_tellsEntries_3 7 rfl rfl)
theorem dX8_tellsEntries_81 : decode cX8_tellsEntries 81 = .ok (.iload 4, 2) := dk_21 4 (dk_at dksX8_tellsEntries_3 9 rfl rfl)
theorem dX8_tellsEntries_83 : decode cX8_tellsEntries 83 = .ok (.iadd, 1) := dk_96 (dk_at dksX8_tellsEntries_3 11 rfl rfl)
theorem dX8_tellsEntries_84 : decode cX8_tellsEntries 84 = .ok (.aload_n 0, 1) := dk_42 (dk_at dksX8_tellsEntries_3 12 rfl rfl)
theorem dX8_tellsEntries_85 : decode cX8_tellsEntries 85 = .ok (.getfield 7, 3) := dk_180 0 7 (dk_at dksX8_tellsEntries_3 13 rfl rfl)
theorem dX8_tellsEntries_88 : decode cX8_tellsEntries 88 = .ok (.aload_n 0, 1) := dk_42 (dk_at dksX8_tellsEntries_3 16 rfl rfl)
theorem dX8_tellsEntries_89 : decode cX8_tellsEntries 89 = .ok (.iload_n 1, 1) := dk_27 (dk_at dksX8_tellsEntries_3 17 rfl rfl)
theorem dX8_tellsEntries_90 : decode cX8_tellsEntries 90 = .ok (.iload_n 2, 1) := dk_28 (dk_at dksX8_tellsEntries_3 18 rfl rfl)
theorem dX8_tellsEntries_91 : decode cX8_tellsEntries 91 = .ok (.invokevirtual 112, 3) := dk_182 0 112 (dk_at dksX8_tellsEntries_3 19 rfl rfl)
theorem dX8_tellsEntries_94 : decode cX8_tellsEntries 94 = .ok (.iload 4, 2) := dk_21 4 (dk_at dksX8_tellsEntries_3 22 rfl rfl)
theorem dX8_tellsEntries_96 : decode cX8_tellsEntries 96 = .ok (.iadd, 1) := dk_96 (dk_at dksX8_tellsEntries_4 0 rfl rfl)
theorem dX8_tellsEntries_97 : decode cX8_tellsEntries 97 = .ok (.iaload, 1) := dk_46 (dk_at dksX8_tellsEntries_4 1 rfl rfl)
theorem dX8_tellsEntries_98 : decode cX8_tellsEntries 98 = .ok (.iastore, 1) := dk_79 (dk_at dksX8_tellsEntries_4 2 rfl rfl)
theorem dX8_tellsEntries_99 : decode cX8_tellsEntries 99 = .ok (.iinc 4 1, 3) := dk_132 4 1 (dk_at dksX8_tellsEntries_4 3 rfl rfl)
theorem dX8_tellsEntries_102 : decode cX8_tellsEntries 102 = .ok (.goto (-35), 3) := dk_167 255 221 (dk_at dksX8_tellsEntries_4 6 rfl rfl)
theorem dX8_tellsEntries_105 : decode cX8_tellsEntries 105 = .ok (.return_, 1) := dk_177 (dk_at dksX8_tellsEntries_4 9 rfl rfl)
abbrev cX8_holds : ByteArray := prog_18_method_75_code
def yX8_holds : MethodName := ⟨RX8, "holds", "(I)V"⟩
def dkwX8_holds_5 : List UInt8 := [42, 27, 2, 182, 1, 85, 42, 27, 182, 1, 39, 177]
abbrev dktX8_holds_5 : List UInt8 := dkwX8_holds_5 ++ []
def dkwX8_holds_4 : List UInt8 := [154, 0, 23, 42, 27, 182, 1, 82, 153, 0, 15, 42, 27, 182, 1, 27, 27, 184, 1, 30, 153, 0, 4, 177]
abbrev dktX8_holds_4 : List UInt8 := dkwX8_holds_4 ++ dktX8_holds_5
def dkwX8_holds_3 : List UInt8 := [96, 42, 27, 182, 0, 108, 182, 0, 133, 42, 27, 182, 1, 58, 167, 255, 175, 42, 27, 182, 0, 124]
abbrev dktX8_holds_3 : List UInt8 := dkwX8_holds_3 ++ dktX8_holds_4
def dkwX8_holds_2 : List UInt8 := [182, 1, 51, 153, 0, 7, 4, 167, 0, 4, 3, 61, 28, 154, 0, 6, 167, 255, 197, 42, 27, 16, 38, 27]
abbrev dktX8_holds_2 : List UInt8 := dkwX8_holds_2 ++ dktX8_holds_3
def dkwX8_holds_1 : List UInt8 := [153, 0, 32, 42, 27, 182, 1, 82, 153, 0, 24, 42, 27, 42, 27, 4, 182, 0, 101, 4, 29, 3]
abbrev dktX8_holds_1 : List UInt8 := dkwX8_holds_1 ++ dktX8_holds_2
def dkwX8_holds_0 : List UInt8 := [4, 61, 28, 153, 0, 83, 42, 27, 42, 27, 182, 1, 76, 182, 1, 79, 42, 27, 182, 0, 124, 62, 29]
abbrev dktX8_holds_0 : List UInt8 := dkwX8_holds_0 ++ dktX8_holds_1
theorem dksX8_holds_0 : cX8_holds.data.toList.drop 0 = dktX8_holds_0 := by decide +kernel
theorem dksX8_holds_1 : cX8_holds.data.toList.drop 23 = dktX8_holds_1 := dk_seg dksX8_holds_0 23 rfl rfl
theorem dksX8_holds_2 : cX8_holds.data.toList.drop 45 = dktX8_holds_2 := dk_seg dksX8_holds_1 22 rfl rfl
theorem dksX8_holds_3 : cX8_holds.data.toList.drop 69 = dktX8_holds_3 := dk_seg dksX8_holds_2 24 rfl rfl
theorem dksX8_holds_4 : cX8_holds.data.toList.drop 91 = dktX8_holds_4 := dk_seg dksX8_holds_3 22 rfl rfl
theorem dksX8_holds_5 : cX8_holds.data.toList.drop 115 = dktX8_holds_5 := dk_seg dksX8_holds_4 24 rfl rfl
theorem dX8_holds_0 : decode cX8_holds 0 = .ok (.iconst 1, 1) := dk_4 (dk_at dksX8_holds_0 0 rfl rfl)
theorem dX8_holds_1 : decode cX8_holds 1 = .ok (.istore_n 2, 1) := dk_61 (dk_at dksX8_holds_0 1 rfl rfl)
theorem dX8_holds_2 : decode cX8_holds 2 = .ok (.iload_n 2, 1) := dk_28 (dk_at dksX8_holds_0 2 rfl rfl)
theorem dX8_holds_3 : decode cX8_holds 3 = .ok (.ifCond .eq 83, 3) := dk_153 0 83 (dk_at dksX8_holds_0 3 rfl rfl)
theorem dX8_holds_6 : decode cX8_holds 6 = .ok (.aload_n 0, 1) := dk_42 (dk_at dksX8_holds_0 6 rfl rfl)
theorem dX8_holds_7 : decode cX8_holds 7 = .ok (.iload_n 1, 1) := dk_27 (dk_at dksX8_holds_0 7 rfl rfl)
theorem dX8_holds_8 : decode cX8_holds 8 = .ok (.aload_n 0, 1) := dk_42 (dk_at dksX8_holds_0 8 rfl rfl)
theorem dX8_holds_9 : decode cX8_holds 9 = .ok (.iload_n 1, 1) := dk_27 (dk_at dksX8_holds_0 9 rfl rfl)
theorem dX8_holds_10 : decode cX8_holds 10 = .ok (.invokevirtual 332, 3) := dk_182 1 76 (dk_at dksX8_holds_0 10 rfl rfl)
theorem dX8_holds_13 : decode cX8_holds 13 = .ok (.invokevirtual 335, 3) := dk_182 1 79 (dk_at dksX8_holds_0 13 rfl rfl)
theorem dX8_holds_16 : decode cX8_holds 16 = .ok (.aload_n 0, 1) := dk_42 (dk_at dksX8_holds_0 16 rfl rfl)
theorem dX8_holds_17 : decode cX8_holds 17 = .ok (.iload_n 1, 1) := dk_27 (dk_at dksX8_holds_0 17 rfl rfl)
theorem dX8_holds_18 : decode cX8_holds 18 = .ok (.invokevirtual 124, 3) := dk_182 0 124 (dk_at dksX8_holds_0 18 rfl rfl)
theorem dX8_holds_21 : decode cX8_holds 21 = .ok (.istore_n 3, 1) := dk_62 (dk_at dksX8_holds_0 21 rfl rfl)
theorem dX8_holds_22 : decode cX8_holds 22 = .ok (.iload_n 3, 1) := dk_29 (dk_at dksX8_holds_0 22 rfl rfl)
theorem dX8_holds_23 : decode cX8_holds 23 = .ok (.ifCond .eq 32, 3) := dk_153 0 32 (dk_at dksX8_holds_1 0 rfl rfl)
theorem dX8_holds_26 : decode cX8_holds 26 = .ok (.aload_n 0, 1) := dk_42 (dk_at dksX8_holds_1 3 rfl rfl)
theorem dX8_holds_27 : decode cX8_holds 27 = .ok (.iload_n 1, 1) := dk_27 (dk_at dksX8_holds_1 4 rfl rfl)
theorem dX8_holds_28 : decode cX8_holds 28 = .ok (.invokevirtual 338, 3) := dk_182 1 82 (dk_at dksX8_holds_1 5 rfl rfl)
theorem dX8_holds_31 : decode cX8_holds 31 = .ok (.ifCond .eq 24, 3) := dk_153 0 24 (dk_at dksX8_holds_1 8 rfl rfl)
theorem dX8_holds_34 : decode cX8_holds 34 = .ok (.aload_n 0, 1) := dk_42 (dk_at dksX8_holds_1 11 rfl rfl)
theorem dX8_holds_35 : decode cX8_holds 35 = .ok (.iload_n 1, 1) := dk_27 (dk_at dksX8_holds_1 12 rfl rfl)
theorem dX8_holds_36 : decode cX8_holds 36 = .ok (.aload_n 0, 1) := dk_42 (dk_at dksX8_holds_1 13 rfl rfl)
theorem dX8_holds_37 : decode cX8_holds 37 = .ok (.iload_n 1, 1) := dk_27 (dk_at dksX8_holds_1 14 rfl rfl)
theorem dX8_holds_38 : decode cX8_holds 38 = .ok (.iconst 1, 1) := dk_4 (dk_at dksX8_holds_1 15 rfl rfl)
theorem dX8_holds_39 : decode cX8_holds 39 = .ok (.invokevirtual 101, 3) := dk_182 0 101 (dk_at dksX8_holds_1 16 rfl rfl)
theorem dX8_holds_42 : decode cX8_holds 42 = .ok (.iconst 1, 1) := dk_4 (dk_at dksX8_holds_1 19 rfl rfl)
theorem dX8_holds_43 : decode cX8_holds 43 = .ok (.iload_n 3, 1) := dk_29 (dk_at dksX8_holds_1 20 rfl rfl)
theorem dX8_holds_44 : decode cX8_holds 44 = .ok (.iconst 0, 1) := dk_3 (dk_at dksX8_holds_1 21 rfl rfl)
theorem dX8_holds_45 : decode cX8_holds 45 = .ok (.invokevirtual 307, 3) := dk_182 1 51 (dk_at dksX8_holds_2 0 rfl rfl)
theorem dX8_holds_48 : decode cX8_holds 48 = .ok (.ifCond .eq 7, 3) := dk_153 0 7 (dk_at dksX8_holds_2 3 rfl rfl)
theorem dX8_holds_51 : decode cX8_holds 51 = .ok (.iconst 1, 1) := dk_4 (dk_at dksX8_holds_2 6 rfl rfl)
theorem dX8_holds_52 : decode cX8_holds 52 = .ok (.goto 4, 3) := dk_167 0 4 (dk_at dksX8_holds_2 7 rfl rfl)
theorem dX8_holds_55 : decode cX8_holds 55 = .ok (.iconst 0, 1) := dk_3 (dk_at dksX8_holds_2 10 rfl rfl)
theorem dX8_holds_56 : decode cX8_holds 56 = .ok (.istore_n 2, 1) := dk_61 (dk_at dksX8_holds_2 11 rfl rfl)
theorem dX8_holds_57 : decode cX8_holds 57 = .ok (.iload_n 2, 1) := dk_28 (dk_at dksX8_holds_2 12 rfl rfl)
theorem dX8_holds_58 : decode cX8_holds 58 = .ok (.ifCond .ne 6, 3) := dk_154 0 6 (dk_at dksX8_holds_2 13 rfl rfl)
theorem dX8_holds_61 : decode cX8_holds 61 = .ok (.goto (-59), 3) := dk_167 255 197 (dk_at dksX8_holds_2 16 rfl rfl)
theorem dX8_holds_64 : decode cX8_holds 64 = .ok (.aload_n 0, 1) := dk_42 (dk_at dksX8_holds_2 19 rfl rfl)
theorem dX8_holds_65 : decode cX8_holds 65 = .ok (.iload_n 1, 1) := dk_27 (dk_at dksX8_holds_2 20 rfl rfl)
theorem dX8_holds_66 : decode cX8_holds 66 = .ok (.bipush 38, 2) := dk_16 38 (dk_at dksX8_holds_2 21 rfl rfl)
theorem dX8_holds_68 : decode cX8_holds 68 = .ok (.iload_n 1, 1) := dk_27 (dk_at dksX8_holds_2 23 rfl rfl)
theorem dX8_holds_69 : decode cX8_holds 69 = .ok (.iadd, 1) := dk_96 (dk_at dksX8_holds_3 0 rfl rfl)
theorem dX8_holds_70 : decode cX8_holds 70 = .ok (.aload_n 0, 1) := dk_42 (dk_at dksX8_holds_3 1 rfl rfl)
theorem dX8_holds_71 : decode cX8_holds 71 = .ok (.iload_n 1, 1) := dk_27 (dk_at dksX8_holds_3 2 rfl rfl)
theorem dX8_holds_72 : decode cX8_holds 72 = .ok (.invokevirtual 108, 3) := dk_182 0 108 (dk_at dksX8_holds_3 3 rfl rfl)
theorem dX8_holds_75 : decode cX8_holds 75 = .ok (.invokevirtual 133, 3) := dk_182 0 133 (dk_at dksX8_holds_3 6 rfl rfl)
theorem dX8_holds_78 : decode cX8_holds 78 = .ok (.aload_n 0, 1) := dk_42 (dk_at dksX8_holds_3 9 rfl rfl)
theorem dX8_holds_79 : decode cX8_holds 79 = .ok (.iload_n 1, 1) := dk_27 (dk_at dksX8_holds_3 10 rfl rfl)
theorem dX8_holds_80 : decode cX8_holds 80 = .ok (.invokevirtual 314, 3) := dk_182 1 58 (dk_at dksX8_holds_3 11 rfl rfl)
theorem dX8_holds_83 : decode cX8_holds 83 = .ok (.goto (-81), 3) := dk_167 255 175 (dk_at dksX8_holds_3 14 rfl rfl)
theorem dX8_holds_86 : decode cX8_holds 86 = .ok (.aload_n 0, 1) := dk_42 (dk_at dksX8_holds_3 17 rfl rfl)
theorem dX8_holds_87 : decode cX8_holds 87 = .ok (.iload_n 1, 1) := dk_27 (dk_at dksX8_holds_3 18 rfl rfl)
theorem dX8_holds_88 : decode cX8_holds 88 = .ok (.invokevirtual 124, 3) := dk_182 0 124 (dk_at dksX8_holds_3 19 rfl rfl)
theorem dX8_holds_91 : decode cX8_holds 91 = .ok (.ifCond .ne 23, 3) := dk_154 0 23 (dk_at dksX8_holds_4 0 rfl rfl)
theorem dX8_holds_94 : decode cX8_holds 94 = .ok (.aload_n 0, 1) := dk_42 (dk_at dksX8_holds_4 3 rfl rfl)
theorem dX8_holds_95 : decode cX8_holds 95 = .ok (.iload_n 1, 1) := dk_27 (dk_at dksX8_holds_4 4 rfl rfl)
theorem dX8_holds_96 : decode cX8_holds 96 = .ok (.invokevirtual 338, 3) := dk_182 1 82 (dk_at dksX8_holds_4 5 rfl rfl)
theorem dX8_holds_99 : decode cX8_holds 99 = .ok (.ifCond .eq 15, 3) := dk_153 0 15 (dk_at dksX8_holds_4 8 rfl rfl)
theorem dX8_holds_102 : decode cX8_holds 102 = .ok (.aload_n 0, 1) := dk_42 (dk_at dksX8_holds_4 11 rfl rfl)
theorem dX8_holds_103 : decode cX8_holds 103 = .ok (.iload_n 1, 1) := dk_27 (dk_at dksX8_holds_4 12 rfl rfl)
theorem dX8_holds_104 : decode cX8_holds 104 = .ok (.invokevirtual 283, 3) := dk_182 1 27 (dk_at dksX8_holds_4 13 rfl rfl)
theorem dX8_holds_107 : decode cX8_holds 107 = .ok (.iload_n 1, 1) := dk_27 (dk_at dksX8_holds_4 16 rfl rfl)
theorem dX8_holds_108 : decode cX8_holds 108 = .ok (.invokestatic 286, 3) := dk_184 1 30 (dk_at dksX8_holds_4 17 rfl rfl)
theorem dX8_holds_111 : decode cX8_holds 111 = .ok (.ifCond .eq 4, 3) := dk_153 0 4 (dk_at dksX8_holds_4 20 rfl rfl)
theorem dX8_holds_114 : decode cX8_holds 114 = .ok (.return_, 1) := dk_177 (dk_at dksX8_holds_4 23 rfl rfl)
theorem dX8_holds_115 : decode cX8_holds 115 = .ok (.aload_n 0, 1) := dk_42 (dk_at dksX8_holds_5 0 rfl rfl)
theorem dX8_holds_116 : decode cX8_holds 116 = .ok (.iload_n 1, 1) := dk_27 (dk_at dksX8_holds_5 1 rfl rfl)
theorem dX8_holds_117 : decode cX8_holds 117 = .ok (.iconst (-1), 1) := dk_2 (dk_at dksX8_holds_5 2 rfl rfl)
theorem dX8_holds_118 : decode cX8_holds 118 = .ok (.invokevirtual 341, 3) := dk_182 1 85 (dk_at dksX8_holds_5 3 rfl rfl)
theorem dX8_holds_121 : decode cX8_holds 121 = .ok (.aload_n 0, 1) := dk_42 (dk_at dksX8_holds_5 6 rfl rfl)
theorem dX8_holds_122 : decode cX8_holds 122 = .ok (.iload_n 1, 1) := dk_27 (dk_at dksX8_holds_5 7 rfl rfl)
theorem dX8_holds_123 : decode cX8_holds 123 = .ok (.invokevirtual 295, 3) := dk_182 1 39 (dk_at dksX8_holds_5 8 rfl rfl)
theorem dX8_holds_126 : decode cX8_holds 126 = .ok (.return_, 1) := dk_177 (dk_at dksX8_holds_5 11 rfl rfl)
abbrev cX8_mostHeld : ByteArray := prog_18_method_74_code
def yX8_mostHeld : MethodName := ⟨RX8, "mostHeld", "(I)I"⟩
def dkwX8_mostHeld_2 : List UInt8 := [132, 2, 255, 167, 255, 211, 42, 27, 16, 9, 182, 0, 101, 172]
abbrev dktX8_mostHeld_2 : List UInt8 := dkwX8_mostHeld_2 ++ []
def dkwX8_mostHeld_1 : List UInt8 := [27, 4, 182, 0, 101, 160, 0, 19, 42, 27, 42, 27, 28, 182, 1, 73, 182, 1, 42, 153, 0, 5, 28, 172]
abbrev dktX8_mostHeld_1 : List UInt8 := dkwX8_mostHeld_1 ++ dktX8_mostHeld_2
def dkwX8_mostHeld_0 : List UInt8 := [42, 27, 182, 0, 108, 61, 28, 42, 27, 16, 9, 182, 0, 101, 164, 0, 40, 42, 27, 28, 182, 0, 137, 42]
abbrev dktX8_mostHeld_0 : List UInt8 := dkwX8_mostHeld_0 ++ dktX8_mostHeld_1
theorem dksX8_mostHeld_0 : cX8_mostHeld.data.toList.drop 0 = dktX8_mostHeld_0 := by decide +kernel
theorem dksX8_mostHeld_1 : cX8_mostHeld.data.toList.drop 24 = dktX8_mostHeld_1 := dk_seg dksX8_mostHeld_0 24 rfl rfl
theorem dksX8_mostHeld_2 : cX8_mostHeld.data.toList.drop 48 = dktX8_mostHeld_2 := dk_seg dksX8_mostHeld_1 24 rfl rfl
theorem dX8_mostHeld_0 : decode cX8_mostHeld 0 = .ok (.aload_n 0, 1) := dk_42 (dk_at dksX8_mostHeld_0 0 rfl rfl)
theorem dX8_mostHeld_1 : decode cX8_mostHeld 1 = .ok (.iload_n 1, 1) := dk_27 (dk_at dksX8_mostHeld_0 1 rfl rfl)
theorem dX8_mostHeld_2 : decode cX8_mostHeld 2 = .ok (.invokevirtual 108, 3) := dk_182 0 108 (dk_at dksX8_mostHeld_0 2 rfl rfl)
theorem dX8_mostHeld_5 : decode cX8_mostHeld 5 = .ok (.istore_n 2, 1) := dk_61 (dk_at dksX8_mostHeld_0 5 rfl rfl)
theorem dX8_mostHeld_6 : decode cX8_mostHeld 6 = .ok (.iload_n 2, 1) := dk_28 (dk_at dksX8_mostHeld_0 6 rfl rfl)
theorem dX8_mostHeld_7 : decode cX8_mostHeld 7 = .ok (.aload_n 0, 1) := dk_42 (dk_at dksX8_mostHeld_0 7 rfl rfl)
theorem dX8_mostHeld_8 : decode cX8_mostHeld 8 = .ok (.iload_n 1, 1) := dk_27 (dk_at dksX8_mostHeld_0 8 rfl rfl)
theorem dX8_mostHeld_9 : decode cX8_mostHeld 9 = .ok (.bipush 9, 2) := dk_16 9 (dk_at dksX8_mostHeld_0 9 rfl rfl)
theorem dX8_mostHeld_11 : decode cX8_mostHeld 11 = .ok (.invokevirtual 101, 3) := dk_182 0 101 (dk_at dksX8_mostHeld_0 11 rfl rfl)
theorem dX8_mostHeld_14 : decode cX8_mostHeld 14 = .ok (.if_icmp .le 40, 3) := dk_164 0 40 (dk_at dksX8_mostHeld_0 14 rfl rfl)
theorem dX8_mostHeld_17 : decode cX8_mostHeld 17 = .ok (.aload_n 0, 1) := dk_42 (dk_at dksX8_mostHeld_0 17 rfl rfl)
theorem dX8_mostHeld_18 : decode cX8_mostHeld 18 = .ok (.iload_n 1, 1) := dk_27 (dk_at dksX8_mostHeld_0 18 rfl rfl)
theorem dX8_mostHeld_19 : decode cX8_mostHeld 19 = .ok (.iload_n 2, 1) := dk_28 (dk_at dksX8_mostHeld_0 19 rfl rfl)
theorem dX8_mostHeld_20 : decode cX8_mostHeld 20 = .ok (.invokevirtual 137, 3) := dk_182 0 137 (dk_at dksX8_mostHeld_0 20 rfl rfl)
theorem dX8_mostHeld_23 : decode cX8_mostHeld 23 = .ok (.aload_n 0, 1) := dk_42 (dk_at dksX8_mostHeld_0 23 rfl rfl)
theorem dX8_mostHeld_24 : decode cX8_mostHeld 24 = .ok (.iload_n 1, 1) := dk_27 (dk_at dksX8_mostHeld_1 0 rfl rfl)
theorem dX8_mostHeld_25 : decode cX8_mostHeld 25 = .ok (.iconst 1, 1) := dk_4 (dk_at dksX8_mostHeld_1 1 rfl rfl)
theorem dX8_mostHeld_26 : decode cX8_mostHeld 26 = .ok (.invokevirtual 101, 3) := dk_182 0 101 (dk_at dksX8_mostHeld_1 2 rfl rfl)
theorem dX8_mostHeld_29 : decode cX8_mostHeld 29 = .ok (.if_icmp .ne 19, 3) := dk_160 0 19 (dk_at dksX8_mostHeld_1 5 rfl rfl)
theorem dX8_mostHeld_32 : decode cX8_mostHeld 32 = .ok (.aload_n 0, 1) := dk_42 (dk_at dksX8_mostHeld_1 8 rfl rfl)
theorem dX8_mostHeld_33 : decode cX8_mostHeld 33 = .ok (.iload_n 1, 1) := dk_27 (dk_at dksX8_mostHeld_1 9 rfl rfl)
theorem dX8_mostHeld_34 : decode cX8_mostHeld 34 = .ok (.aload_n 0, 1) := dk_42 (dk_at dksX8_mostHeld_1 10 rfl rfl)
theorem dX8_mostHeld_35 : decode cX8_mostHeld 35 = .ok (.iload_n 1, 1) := dk_27 (dk_at dksX8_mostHeld_1 11 rfl rfl)
theorem dX8_mostHeld_36 : decode cX8_mostHeld 36 = .ok (.iload_n 2, 1) := dk_28 (dk_at dksX8_mostHeld_1 12 rfl rfl)
theorem dX8_mostHeld_37 : decode cX8_mostHeld 37 = .ok (.invokevirtual 329, 3) := dk_182 1 73 (dk_at dksX8_mostHeld_1 13 rfl rfl)
theorem dX8_mostHeld_40 : decode cX8_mostHeld 40 = .ok (.invokevirtual 298, 3) := dk_182 1 42 (dk_at dksX8_mostHeld_1 16 rfl rfl)
theorem dX8_mostHeld_43 : decode cX8_mostHeld 43 = .ok (.ifCond .eq 5, 3) := dk_153 0 5 (dk_at dksX8_mostHeld_1 19 rfl rfl)
theorem dX8_mostHeld_46 : decode cX8_mostHeld 46 = .ok (.iload_n 2, 1) := dk_28 (dk_at dksX8_mostHeld_1 22 rfl rfl)
theorem dX8_mostHeld_47 : decode cX8_mostHeld 47 = .ok (.ireturn, 1) := dk_172 (dk_at dksX8_mostHeld_1 23 rfl rfl)
theorem dX8_mostHeld_48 : decode cX8_mostHeld 48 = .ok (.iinc 2 (-1), 3) := dk_132 2 255 (dk_at dksX8_mostHeld_2 0 rfl rfl)
theorem dX8_mostHeld_51 : decode cX8_mostHeld 51 = .ok (.goto (-45), 3) := dk_167 255 211 (dk_at dksX8_mostHeld_2 3 rfl rfl)
theorem dX8_mostHeld_54 : decode cX8_mostHeld 54 = .ok (.aload_n 0, 1) := dk_42 (dk_at dksX8_mostHeld_2 6 rfl rfl)
theorem dX8_mostHeld_55 : decode cX8_mostHeld 55 = .ok (.iload_n 1, 1) := dk_27 (dk_at dksX8_mostHeld_2 7 rfl rfl)
theorem dX8_mostHeld_56 : decode cX8_mostHeld 56 = .ok (.bipush 9, 2) := dk_16 9 (dk_at dksX8_mostHeld_2 8 rfl rfl)
theorem dX8_mostHeld_58 : decode cX8_mostHeld 58 = .ok (.invokevirtual 101, 3) := dk_182 0 101 (dk_at dksX8_mostHeld_2 10 rfl rfl)
theorem dX8_mostHeld_61 : decode cX8_mostHeld 61 = .ok (.ireturn, 1) := dk_172 (dk_at dksX8_mostHeld_2 13 rfl rfl)
abbrev cX8_whoMatch : ByteArray := prog_18_method_73_code
def yX8_whoMatch : MethodName := ⟨RX8, "whoMatch", "(II)I"⟩
def dkwX8_whoMatch_1 : List UInt8 := [28, 161, 0, 10, 29, 4, 21, 4, 120, 128, 62, 132, 4, 1, 167, 255, 225, 29, 172]
abbrev dktX8_whoMatch_1 : List UInt8 := dkwX8_whoMatch_1 ++ []
def dkwX8_whoMatch_0 : List UInt8 := [4, 27, 120, 62, 3, 54, 4, 21, 4, 16, 7, 162, 0, 30, 42, 27, 16, 38, 21, 4, 96, 182, 0, 101]
abbrev dktX8_whoMatch_0 : List UInt8 := dkwX8_whoMatch_0 ++ dktX8_whoMatch_1
theorem dksX8_whoMatch_0 : cX8_whoMatch.data.toList.drop 0 = dktX8_whoMatch_0 := by decide +kernel
theorem dksX8_whoMatch_1 : cX8_whoMatch.data.toList.drop 24 = dktX8_whoMatch_1 := dk_seg dksX8_whoMatch_0 24 rfl rfl
theorem dX8_whoMatch_0 : decode cX8_whoMatch 0 = .ok (.iconst 1, 1) := dk_4 (dk_at dksX8_whoMatch_0 0 rfl rfl)
theorem dX8_whoMatch_1 : decode cX8_whoMatch 1 = .ok (.iload_n 1, 1) := dk_27 (dk_at dksX8_whoMatch_0 1 rfl rfl)
theorem dX8_whoMatch_2 : decode cX8_whoMatch 2 = .ok (.ishl, 1) := dk_120 (dk_at dksX8_whoMatch_0 2 rfl rfl)
theorem dX8_whoMatch_3 : decode cX8_whoMatch 3 = .ok (.istore_n 3, 1) := dk_62 (dk_at dksX8_whoMatch_0 3 rfl rfl)
theorem dX8_whoMatch_4 : decode cX8_whoMatch 4 = .ok (.iconst 0, 1) := dk_3 (dk_at dksX8_whoMatch_0 4 rfl rfl)
theorem dX8_whoMatch_5 : decode cX8_whoMatch 5 = .ok (.istore 4, 2) := dk_54 4 (dk_at dksX8_whoMatch_0 5 rfl rfl)
theorem dX8_whoMatch_7 : decode cX8_whoMatch 7 = .ok (.iload 4, 2) := dk_21 4 (dk_at dksX8_whoMatch_0 7 rfl rfl)
theorem dX8_whoMatch_9 : decode cX8_whoMatch 9 = .ok (.bipush 7, 2) := dk_16 7 (dk_at dksX8_whoMatch_0 9 rfl rfl)
theorem dX8_whoMatch_11 : decode cX8_whoMatch 11 = .ok (.if_icmp .ge 30, 3) := dk_162 0 30 (dk_at dksX8_whoMatch_0 11 rfl rfl)
theorem dX8_whoMatch_14 : decode cX8_whoMatch 14 = .ok (.aload_n 0, 1) := dk_42 (dk_at dksX8_whoMatch_0 14 rfl rfl)
theorem dX8_whoMatch_15 : decode cX8_whoMatch 15 = .ok (.iload_n 1, 1) := dk_27 (dk_at dksX8_whoMatch_0 15 rfl rfl)
theorem dX8_whoMatch_16 : decode cX8_whoMatch 16 = .ok (.bipush 38, 2) := dk_16 38 (dk_at dksX8_whoMatch_0 16 rfl rfl)
theorem dX8_whoMatch_18 : decode cX8_whoMatch 18 = .ok (.iload 4, 2) := dk_21 4 (dk_at dksX8_whoMatch_0 18 rfl rfl)
theorem dX8_whoMatch_20 : decode cX8_whoMatch 20 = .ok (.iadd, 1) := dk_96 (dk_at dksX8_whoMatch_0 20 rfl rfl)
theorem dX8_whoMatch_21 : decode cX8_whoMatch 21 = .ok (.invokevirtual 101, 3) := dk_182 0 101 (dk_at dksX8_whoMatch_0 21 rfl rfl)
theorem dX8_whoMatch_24 : decode cX8_whoMatch 24 = .ok (.iload_n 2, 1) := dk_28 (dk_at dksX8_whoMatch_1 0 rfl rfl)
theorem dX8_whoMatch_25 : decode cX8_whoMatch 25 = .ok (.if_icmp .lt 10, 3) := dk_161 0 10 (dk_at dksX8_whoMatch_1 1 rfl rfl)
theorem dX8_whoMatch_28 : decode cX8_whoMatch 28 = .ok (.iload_n 3, 1) := dk_29 (dk_at dksX8_whoMatch_1 4 rfl rfl)
theorem dX8_whoMatch_29 : decode cX8_whoMatch 29 = .ok (.iconst 1, 1) := dk_4 (dk_at dksX8_whoMatch_1 5 rfl rfl)
theorem dX8_whoMatch_30 : decode cX8_whoMatch 30 = .ok (.iload 4, 2) := dk_21 4 (dk_at dksX8_whoMatch_1 6 rfl rfl)
theorem dX8_whoMatch_32 : decode cX8_whoMatch 32 = .ok (.ishl, 1) := dk_120 (dk_at dksX8_whoMatch_1 8 rfl rfl)
theorem dX8_whoMatch_33 : decode cX8_whoMatch 33 = .ok (.ior, 1) := dk_128 (dk_at dksX8_whoMatch_1 9 rfl rfl)
theorem dX8_whoMatch_34 : decode cX8_whoMatch 34 = .ok (.istore_n 3, 1) := dk_62 (dk_at dksX8_whoMatch_1 10 rfl rfl)
theorem dX8_whoMatch_35 : decode cX8_whoMatch 35 = .ok (.iinc 4 1, 3) := dk_132 4 1 (dk_at dksX8_whoMatch_1 11 rfl rfl)
theorem dX8_whoMatch_38 : decode cX8_whoMatch 38 = .ok (.goto (-31), 3) := dk_167 255 225 (dk_at dksX8_whoMatch_1 14 rfl rfl)
theorem dX8_whoMatch_41 : decode cX8_whoMatch 41 = .ok (.iload_n 3, 1) := dk_29 (dk_at dksX8_whoMatch_1 17 rfl rfl)
theorem dX8_whoMatch_42 : decode cX8_whoMatch 42 = .ok (.ireturn, 1) := dk_172 (dk_at dksX8_whoMatch_1 18 rfl rfl)
abbrev cX8_growsCommit : ByteArray := prog_18_method_72_code
def yX8_growsCommit : MethodName := ⟨RX8, "growsCommit", "(II)V"⟩
def dkwX8_growsCommit_2 : List UInt8 := [184, 0, 130, 182, 0, 133, 177]
abbrev dktX8_growsCommit_2 : List UInt8 := dkwX8_growsCommit_2 ++ []
def dkwX8_growsCommit_1 : List UInt8 := [42, 27, 29, 182, 1, 70, 132, 3, 1, 167, 255, 233, 42, 27, 16, 9, 42, 27, 16, 9, 182, 0, 101, 28]
abbrev dktX8_growsCommit_1 : List UInt8 := dkwX8_growsCommit_1 ++ dktX8_growsCommit_2
def dkwX8_growsCommit_0 : List UInt8 := [42, 27, 16, 9, 182, 0, 101, 4, 96, 62, 29, 28, 163, 0, 24, 42, 27, 29, 182, 1, 67, 153, 0, 9]
abbrev dktX8_growsCommit_0 : List UInt8 := dkwX8_growsCommit_0 ++ dktX8_growsCommit_1
theorem dksX8_growsCommit_0 : cX8_growsCommit.data.toList.drop 0 = dktX8_growsCommit_0 := by decide +kernel
theorem dksX8_growsCommit_1 : cX8_growsCommit.data.toList.drop 24 = dktX8_growsCommit_1 := dk_seg dksX8_growsCommit_0 24 rfl rfl
theorem dksX8_growsCommit_2 : cX8_growsCommit.data.toList.drop 48 = dktX8_growsCommit_2 := dk_seg dksX8_growsCommit_1 24 rfl rfl
theorem dX8_growsCommit_0 : decode cX8_growsCommit 0 = .ok (.aload_n 0, 1) := dk_42 (dk_at dksX8_growsCommit_0 0 rfl rfl)
theorem dX8_growsCommit_1 : decode cX8_growsCommit 1 = .ok (.iload_n 1, 1) := dk_27 (dk_at dksX8_growsCommit_0 1 rfl rfl)
theorem dX8_growsCommit_2 : decode cX8_growsCommit 2 = .ok (.bipush 9, 2) := dk_16 9 (dk_at dksX8_growsCommit_0 2 rfl rfl)
theorem dX8_growsCommit_4 : decode cX8_growsCommit 4 = .ok (.invokevirtual 101, 3) := dk_182 0 101 (dk_at dksX8_growsCommit_0 4 rfl rfl)
theorem dX8_growsCommit_7 : decode cX8_growsCommit 7 = .ok (.iconst 1, 1) := dk_4 (dk_at dksX8_growsCommit_0 7 rfl rfl)
theorem dX8_growsCommit_8 : decode cX8_growsCommit 8 = .ok (.iadd, 1) := dk_96 (dk_at dksX8_growsCommit_0 8 rfl rfl)
theorem dX8_growsCommit_9 : decode cX8_growsCommit 9 = .ok (.istore_n 3, 1) := dk_62 (dk_at dksX8_growsCommit_0 9 rfl rfl)
theorem dX8_growsCommit_10 : decode cX8_growsCommit 10 = .ok (.iload_n 3, 1) := dk_29 (dk_at dksX8_growsCommit_0 10 rfl rfl)
theorem dX8_growsCommit_11 : decode cX8_growsCommit 11 = .ok (.iload_n 2, 1) := dk_28 (dk_at dksX8_growsCommit_0 11 rfl rfl)
theorem dX8_growsCommit_12 : decode cX8_growsCommit 12 = .ok (.if_icmp .gt 24, 3) := dk_163 0 24 (dk_at dksX8_growsCommit_0 12 rfl rfl)
theorem dX8_growsCommit_15 : decode cX8_growsCommit 15 = .ok (.aload_n 0, 1) := dk_42 (dk_at dksX8_growsCommit_0 15 rfl rfl)
theorem dX8_growsCommit_16 : decode cX8_growsCommit 16 = .ok (.iload_n 1, 1) := dk_27 (dk_at dksX8_growsCommit_0 16 rfl rfl)
theorem dX8_growsCommit_17 : decode cX8_growsCommit 17 = .ok (.iload_n 3, 1) := dk_29 (dk_at dksX8_growsCommit_0 17 rfl rfl)
theorem dX8_growsCommit_18 : decode cX8_growsCommit 18 = .ok (.invokevirtual 323, 3) := dk_182 1 67 (dk_at dksX8_growsCommit_0 18 rfl rfl)
theorem dX8_growsCommit_21 : decode cX8_growsCommit 21 = .ok (.ifCond .eq 9, 3) := dk_153 0 9 (dk_at dksX8_growsCommit_0 21 rfl rfl)
theorem dX8_growsCommit_24 : decode cX8_growsCommit 24 = .ok (.aload_n 0, 1) := dk_42 (dk_at dksX8_growsCommit_1 0 rfl rfl)
theorem dX8_growsCommit_25 : decode cX8_growsCommit 25 = .ok (.iload_n 1, 1) := dk_27 (dk_at dksX8_growsCommit_1 1 rfl rfl)
theorem dX8_growsCommit_26 : decode cX8_growsCommit 26 = .ok (.iload_n 3, 1) := dk_29 (dk_at dksX8_growsCommit_1 2 rfl rfl)
theorem dX8_growsCommit_27 : decode cX8_growsCommit 27 = .ok (.invokevirtual 326, 3) := dk_182 1 70 (dk_at dksX8_growsCommit_1 3 rfl rfl)
theorem dX8_growsCommit_30 : decode cX8_growsCommit 30 = .ok (.iinc 3 1, 3) := dk_132 3 1 (dk_at dksX8_growsCommit_1 6 rfl rfl)
theorem dX8_growsCommit_33 : decode cX8_growsCommit 33 = .ok (.goto (-23), 3) := dk_167 255 233 (dk_at dksX8_growsCommit_1 9 rfl rfl)
theorem dX8_growsCommit_36 : decode cX8_growsCommit 36 = .ok (.aload_n 0, 1) := dk_42 (dk_at dksX8_growsCommit_1 12 rfl rfl)
theorem dX8_growsCommit_37 : decode cX8_growsCommit 37 = .ok (.iload_n 1, 1) := dk_27 (dk_at dksX8_growsCommit_1 13 rfl rfl)
theorem dX8_growsCommit_38 : decode cX8_growsCommit 38 = .ok (.bipush 9, 2) := dk_16 9 (dk_at dksX8_growsCommit_1 14 rfl rfl)
theorem dX8_growsCommit_40 : decode cX8_growsCommit 40 = .ok (.aload_n 0, 1) := dk_42 (dk_at dksX8_growsCommit_1 16 rfl rfl)
theorem dX8_growsCommit_41 : decode cX8_growsCommit 41 = .ok (.iload_n 1, 1) := dk_27 (dk_at dksX8_growsCommit_1 17 rfl rfl)
theorem dX8_growsCommit_42 : decode cX8_growsCommit 42 = .ok (.bipush 9, 2) := dk_16 9 (dk_at dksX8_growsCommit_1 18 rfl rfl)
theorem dX8_growsCommit_44 : decode cX8_growsCommit 44 = .ok (.invokevirtual 101, 3) := dk_182 0 101 (dk_at dksX8_growsCommit_1 20 rfl rfl)
theorem dX8_growsCommit_47 : decode cX8_growsCommit 47 = .ok (.iload_n 2, 1) := dk_28 (dk_at dksX8_growsCommit_1 23 rfl rfl)
theorem dX8_growsCommit_48 : decode cX8_growsCommit 48 = .ok (.invokestatic 130, 3) := dk_184 0 130 (dk_at dksX8_growsCommit_2 0 rfl rfl)
theorem dX8_growsCommit_51 : decode cX8_growsCommit 51 = .ok (.invokevirtual 133, 3) := dk_182 0 133 (dk_at dksX8_growsCommit_2 3 rfl rfl)
theorem dX8_growsCommit_54 : decode cX8_growsCommit 54 = .ok (.return_, 1) := dk_177 (dk_at dksX8_growsCommit_2 6 rfl rfl)
abbrev cX8_hasEntry : ByteArray := prog_18_method_15_code
def yX8_hasEntry : MethodName := ⟨RX8, "hasEntry", "(II)Z"⟩
def dkwX8_hasEntry_1 : List UInt8 := [172]
abbrev dktX8_hasEntry_1 : List UInt8 := dkwX8_hasEntry_1 ++ []
def dkwX8_hasEntry_0 : List UInt8 := [28, 42, 27, 7, 182, 0, 101, 164, 0, 16, 28, 42, 27, 182, 0, 108, 163, 0, 7, 4, 167, 0, 4, 3]
abbrev dktX8_hasEntry_0 : List UInt8 := dkwX8_hasEntry_0 ++ dktX8_hasEntry_1
theorem dksX8_hasEntry_0 : cX8_hasEntry.data.toList.drop 0 = dktX8_hasEntry_0 := by decide +kernel
theorem dksX8_hasEntry_1 : cX8_hasEntry.data.toList.drop 24 = dktX8_hasEntry_1 := dk_seg dksX8_hasEntry_0 24 rfl rfl
theorem dX8_hasEntry_0 : decode cX8_hasEntry 0 = .ok (.iload_n 2, 1) := dk_28 (dk_at dksX8_hasEntry_0 0 rfl rfl)
theorem dX8_hasEntry_1 : decode cX8_hasEntry 1 = .ok (.aload_n 0, 1) := dk_42 (dk_at dksX8_hasEntry_0 1 rfl rfl)
theorem dX8_hasEntry_2 : decode cX8_hasEntry 2 = .ok (.iload_n 1, 1) := dk_27 (dk_at dksX8_hasEntry_0 2 rfl rfl)
theorem dX8_hasEntry_3 : decode cX8_hasEntry 3 = .ok (.iconst 4, 1) := dk_7 (dk_at dksX8_hasEntry_0 3 rfl rfl)
theorem dX8_hasEntry_4 : decode cX8_hasEntry 4 = .ok (.invokevirtual 101, 3) := dk_182 0 101 (dk_at dksX8_hasEntry_0 4 rfl rfl)
theorem dX8_hasEntry_7 : decode cX8_hasEntry 7 = .ok (.if_icmp .le 16, 3) := dk_164 0 16 (dk_at dksX8_hasEntry_0 7 rfl rfl)
theorem dX8_hasEntry_10 : decode cX8_hasEntry 10 = .ok (.iload_n 2, 1) := dk_28 (dk_at dksX8_hasEntry_0 10 rfl rfl)
theorem dX8_hasEntry_11 : decode cX8_hasEntry 11 = .ok (.aload_n 0, 1) := dk_42 (dk_at dksX8_hasEntry_0 11 rfl rfl)
theorem dX8_hasEntry_12 : decode cX8_hasEntry 12 = .ok (.iload_n 1, 1) := dk_27 (dk_at dksX8_hasEntry_0 12 rfl rfl)
theorem dX8_hasEntry_13 : decode cX8_hasEntry 13 = .ok (.invokevirtual 108, 3) := dk_182 0 108 (dk_at dksX8_hasEntry_0 13 rfl rfl)
theorem dX8_hasEntry_16 : decode cX8_hasEntry 16 = .ok (.if_icmp .gt 7, 3) := dk_163 0 7 (dk_at dksX8_hasEntry_0 16 rfl rfl)
theorem dX8_hasEntry_19 : decode cX8_hasEntry 19 = .ok (.iconst 1, 1) := dk_4 (dk_at dksX8_hasEntry_0 19 rfl rfl)
theorem dX8_hasEntry_20 : decode cX8_hasEntry 20 = .ok (.goto 4, 3) := dk_167 0 4 (dk_at dksX8_hasEntry_0 20 rfl rfl)
theorem dX8_hasEntry_23 : decode cX8_hasEntry 23 = .ok (.iconst 0, 1) := dk_3 (dk_at dksX8_hasEntry_0 23 rfl rfl)
theorem dX8_hasEntry_24 : decode cX8_hasEntry 24 = .ok (.ireturn, 1) := dk_172 (dk_at dksX8_hasEntry_1 0 rfl rfl)
abbrev cX8_seesHeld : ByteArray := prog_18_method_71_code
def yX8_seesHeld : MethodName := ⟨RX8, "seesHeld", "(II)V"⟩
def dkwX8_seesHeld_7 : List UInt8 := [180, 0, 7, 17, 43, 126, 46, 28, 184, 0, 130, 79, 42, 42, 180, 1, 64, 4, 96, 181, 1, 64, 177]
abbrev dktX8_seesHeld_7 : List UInt8 := dkwX8_seesHeld_7 ++ []
def dkwX8_seesHeld_6 : List UInt8 := [180, 0, 7, 29, 21, 6, 96, 46, 79, 132, 6, 1, 167, 255, 228, 42, 180, 0, 7, 17, 43, 126, 42]
abbrev dktX8_seesHeld_6 : List UInt8 := dkwX8_seesHeld_6 ++ dktX8_seesHeld_7
def dkwX8_seesHeld_5 : List UInt8 := [182, 1, 48, 177, 3, 54, 6, 21, 6, 7, 162, 0, 28, 42, 180, 0, 7, 21, 4, 21, 6, 96, 42]
abbrev dktX8_seesHeld_5 : List UInt8 := dkwX8_seesHeld_5 ++ dktX8_seesHeld_6
def dkwX8_seesHeld_4 : List UInt8 := [54, 5, 132, 6, 1, 167, 255, 213, 42, 180, 0, 7, 21, 4, 46, 153, 0, 13, 21, 5, 154, 0, 7, 42]
abbrev dktX8_seesHeld_4 : List UInt8 := dkwX8_seesHeld_4 ++ dktX8_seesHeld_5
def dkwX8_seesHeld_3 : List UInt8 := [21, 4, 21, 6, 96, 46, 42, 180, 0, 7, 29, 21, 6, 96, 46, 160, 0, 7, 4, 167, 0, 4, 3]
abbrev dktX8_seesHeld_3 : List UInt8 := dkwX8_seesHeld_3 ++ dktX8_seesHeld_4
def dkwX8_seesHeld_2 : List UInt8 := [182, 0, 133, 4, 54, 5, 3, 54, 6, 21, 6, 7, 162, 0, 43, 21, 5, 153, 0, 29, 42, 180, 0, 7]
abbrev dktX8_seesHeld_2 : List UInt8 := dkwX8_seesHeld_2 ++ dktX8_seesHeld_3
def dkwX8_seesHeld_1 : List UInt8 := [154, 0, 27, 42, 27, 16, 15, 42, 180, 0, 7, 29, 5, 96, 46, 96, 42, 180, 0, 7, 29, 6, 96, 46]
abbrev dktX8_seesHeld_1 : List UInt8 := dkwX8_seesHeld_1 ++ dktX8_seesHeld_2
def dkwX8_seesHeld_0 : List UInt8 := [42, 27, 28, 182, 0, 112, 62, 17, 23, 140, 7, 28, 104, 96, 54, 4, 42, 180, 0, 7, 29, 4, 96, 46]
abbrev dktX8_seesHeld_0 : List UInt8 := dkwX8_seesHeld_0 ++ dktX8_seesHeld_1
theorem dksX8_seesHeld_0 : cX8_seesHeld.data.toList.drop 0 = dktX8_seesHeld_0 := by decide +kernel
theorem dksX8_seesHeld_1 : cX8_seesHeld.data.toList.drop 24 = dktX8_seesHeld_1 := dk_seg dksX8_seesHeld_0 24 rfl rfl
theorem dksX8_seesHeld_2 : cX8_seesHeld.data.toList.drop 48 = dktX8_seesHeld_2 := dk_seg dksX8_seesHeld_1 24 rfl rfl
theorem dksX8_seesHeld_3 : cX8_seesHeld.data.toList.drop 72 = dktX8_seesHeld_3 := dk_seg dksX8_seesHeld_2 24 rfl rfl
theorem dksX8_seesHeld_4 : cX8_seesHeld.data.toList.drop 95 = dktX8_seesHeld_4 := dk_seg dksX8_seesHeld_3 23 rfl rfl
theorem dksX8_seesHeld_5 : cX8_seesHeld.data.toList.drop 119 = dktX8_seesHeld_5 := dk_seg dksX8_seesHeld_4 24 rfl rfl
theorem dksX8_seesHeld_6 : cX8_seesHeld.data.toList.drop 142 = dktX8_seesHeld_6 := dk_seg dksX8_seesHeld_5 23 rfl rfl
theorem dksX8_seesHeld_7 : cX8_seesHeld.data.toList.drop 165 = dktX8_seesHeld_7 := dk_seg dksX8_seesHeld_6 23 rfl rfl
theorem dX8_seesHeld_0 : decode cX8_seesHeld 0 = .ok (.aload_n 0, 1) := dk_42 (dk_at dksX8_seesHeld_0 0 rfl rfl)
theorem dX8_seesHeld_1 : decode cX8_seesHeld 1 = .ok (.iload_n 1, 1) := dk_27 (dk_at dksX8_seesHeld_0 1 rfl rfl)
theorem dX8_seesHeld_2 : decode cX8_seesHeld 2 = .ok (.iload_n 2, 1) := dk_28 (dk_at dksX8_seesHeld_0 2 rfl rfl)
theorem dX8_seesHeld_3 : decode cX8_seesHeld 3 = .ok (.invokevirtual 112, 3) := dk_182 0 112 (dk_at dksX8_seesHeld_0 3 rfl rfl)
theorem dX8_seesHeld_6 : decode cX8_seesHeld 6 = .ok (.istore_n 3, 1) := dk_62 (dk_at dksX8_seesHeld_0 6 rfl rfl)
theorem dX8_seesHeld_7 : decode cX8_seesHeld 7 = .ok (.sipush 6028, 3) := dk_17 23 140 (dk_at dksX8_seesHeld_0 7 rfl rfl)
theorem dX8_seesHeld_10 : decode cX8_seesHeld 10 = .ok (.iconst 4, 1) := dk_7 (dk_at dksX8_seesHeld_0 10 rfl rfl)
theorem dX8_seesHeld_11 : decode cX8_seesHeld 11 = .ok (.iload_n 2, 1) := dk_28 (dk_at dksX8_seesHeld_0 11 rfl rfl)
theorem dX8_seesHeld_12 : decode cX8_seesHeld 12 = .ok (.imul, 1) := dk_104 (dk_at dksX8_seesHeld_0 12 rfl rfl)
theorem dX8_seesHeld_13 : decode cX8_seesHeld 13 = .ok (.iadd, 1) := dk_96 (dk_at dksX8_seesHeld_0 13 rfl rfl)
theorem dX8_seesHeld_14 : decode cX8_seesHeld 14 = .ok (.istore 4, 2) := dk_54 4 (dk_at dksX8_seesHeld_0 14 rfl rfl)
theorem dX8_seesHeld_16 : decode cX8_seesHeld 16 = .ok (.aload_n 0, 1) := dk_42 (dk_at dksX8_seesHeld_0 16 rfl rfl)
theorem dX8_seesHeld_17 : decode cX8_seesHeld 17 = .ok (.getfield 7, 3) := dk_180 0 7 (dk_at dksX8_seesHeld_0 17 rfl rfl)
theorem dX8_seesHeld_20 : decode cX8_seesHeld 20 = .ok (.iload_n 3, 1) := dk_29 (dk_at dksX8_seesHeld_0 20 rfl rfl)
theorem dX8_seesHeld_21 : decode cX8_seesHeld 21 = .ok (.iconst 1, 1) := dk_4 (dk_at dksX8_seesHeld_0 21 rfl rfl)
theorem dX8_seesHeld_22 : decode cX8_seesHeld 22 = .ok (.iadd, 1) := dk_96 (dk_at dksX8_seesHeld_0 22 rfl rfl)
theorem dX8_seesHeld_23 : decode cX8_seesHeld 23 = .ok (.iaload, 1) := dk_46 (dk_at dksX8_seesHeld_0 23 rfl rfl)
theorem dX8_seesHeld_24 : decode cX8_seesHeld 24 = .ok (.ifCond .ne 27, 3) := dk_154 0 27 (dk_at dksX8_seesHeld_1 0 rfl rfl)
theorem dX8_seesHeld_27 : decode cX8_seesHeld 27 = .ok (.aload_n 0, 1) := dk_42 (dk_at dksX8_seesHeld_1 3 rfl rfl)
theorem dX8_seesHeld_28 : decode cX8_seesHeld 28 = .ok (.iload_n 1, 1) := dk_27 (dk_at dksX8_seesHeld_1 4 rfl rfl)
theorem dX8_seesHeld_29 : decode cX8_seesHeld 29 = .ok (.bipush 15, 2) := dk_16 15 (dk_at dksX8_seesHeld_1 5 rfl rfl)
theorem dX8_seesHeld_31 : decode cX8_seesHeld 31 = .ok (.aload_n 0, 1) := dk_42 (dk_at dksX8_seesHeld_1 7 rfl rfl)
theorem dX8_seesHeld_32 : decode cX8_seesHeld 32 = .ok (.getfield 7, 3) := dk_180 0 7 (dk_at dksX8_seesHeld_1 8 rfl rfl)
theorem dX8_seesHeld_35 : decode cX8_seesHeld 35 = .ok (.iload_n 3, 1) := dk_29 (dk_at dksX8_seesHeld_1 11 rfl rfl)
theorem dX8_seesHeld_36 : decode cX8_seesHeld 36 = .ok (.iconst 2, 1) := dk_5 (dk_at dksX8_seesHeld_1 12 rfl rfl)
theorem dX8_seesHeld_37 : decode cX8_seesHeld 37 = .ok (.iadd, 1) := dk_96 (dk_at dksX8_seesHeld_1 13 rfl rfl)
theorem dX8_seesHeld_38 : decode cX8_seesHeld 38 = .ok (.iaload, 1) := dk_46 (dk_at dksX8_seesHeld_1 14 rfl rfl)
theorem dX8_seesHeld_39 : decode cX8_seesHeld 39 = .ok (.iadd, 1) := dk_96 (dk_at dksX8_seesHeld_1 15 rfl rfl)
theorem dX8_seesHeld_40 : decode cX8_seesHeld 40 = .ok (.aload_n 0, 1) := dk_42 (dk_at dksX8_seesHeld_1 16 rfl rfl)
theorem dX8_seesHeld_41 : decode cX8_seesHeld 41 = .ok (.getfield 7, 3) := dk_180 0 7 (dk_at dksX8_seesHeld_1 17 rfl rfl)
theorem dX8_seesHeld_44 : decode cX8_seesHeld 44 = .ok (.iload_n 3, 1) := dk_29 (dk_at dksX8_seesHeld_1 20 rfl rfl)
theorem dX8_seesHeld_45 : decode cX8_seesHeld 45 = .ok (.iconst 3, 1) := dk_6 (dk_at dksX8_seesHeld_1 21 rfl rfl)
theorem dX8_seesHeld_46 : decode cX8_seesHeld 46 = .ok (.iadd, 1) := dk_96 (dk_at dksX8_seesHeld_1 22 rfl rfl)
theorem dX8_seesHeld_47 : decode cX8_seesHeld 47 = .ok (.iaload, 1) := dk_46 (dk_at dksX8_seesHeld_1 23 rfl rfl)
theorem dX8_seesHeld_48 : decode cX8_seesHeld 48 = .ok (.invokevirtual 133, 3) := dk_182 0 133 (dk_at dksX8_seesHeld_2 0 rfl rfl)
theorem dX8_seesHeld_51 : decode cX8_seesHeld 51 = .ok (.iconst 1, 1) := dk_4 (dk_at dksX8_seesHeld_2 3 rfl rfl)
theorem dX8_seesHeld_52 : decode cX8_seesHeld 52 = .ok (.istore 5, 2) := dk_54 5 (dk_at dksX8_seesHeld_2 4 rfl rfl)
theorem dX8_seesHeld_54 : decode cX8_seesHeld 54 = .ok (.iconst 0, 1) := dk_3 (dk_at dksX8_seesHeld_2 6 rfl rfl)
theorem dX8_seesHeld_55 : decode cX8_seesHeld 55 = .ok (.istore 6, 2) := dk_54 6 (dk_at dksX8_seesHeld_2 7 rfl rfl)
theorem dX8_seesHeld_57 : decode cX8_seesHeld 57 = .ok (.iload 6, 2) := dk_21 6 (dk_at dksX8_seesHeld_2 9 rfl rfl)
theorem dX8_seesHeld_59 : decode cX8_seesHeld 59 = .ok (.iconst 4, 1) := dk_7 (dk_at dksX8_seesHeld_2 11 rfl rfl)
theorem dX8_seesHeld_60 : decode cX8_seesHeld 60 = .ok (.if_icmp .ge 43, 3) := dk_162 0 43 (dk_at dksX8_seesHeld_2 12 rfl rfl)
theorem dX8_seesHeld_63 : decode cX8_seesHeld 63 = .ok (.iload 5, 2) := dk_21 5 (dk_at dksX8_seesHeld_2 15 rfl rfl)
theorem dX8_seesHeld_65 : decode cX8_seesHeld 65 = .ok (.ifCond .eq 29, 3) := dk_153 0 29 (dk_at dksX8_seesHeld_2 17 rfl rfl)
theorem dX8_seesHeld_68 : decode cX8_seesHeld 68 = .ok (.aload_n 0, 1) := dk_42 (dk_at dksX8_seesHeld_2 20 rfl rfl)
theorem dX8_seesHeld_69 : decode cX8_seesHeld 69 = .ok (.getfield 7, 3) := dk_180 0 7 (dk_at dksX8_seesHeld_2 21 rfl rfl)
theorem dX8_seesHeld_72 : decode cX8_seesHeld 72 = .ok (.iload 4, 2) := dk_21 4 (dk_at dksX8_seesHeld_3 0 rfl rfl)
theorem dX8_seesHeld_74 : decode cX8_seesHeld 74 = .ok (.iload 6, 2) := dk_21 6 (dk_at dksX8_seesHeld_3 2 rfl rfl)
theorem dX8_seesHeld_76 : decode cX8_seesHeld 76 = .ok (.iadd, 1) := dk_96 (dk_at dksX8_seesHeld_3 4 rfl rfl)
theorem dX8_seesHeld_77 : decode cX8_seesHeld 77 = .ok (.iaload, 1) := dk_46 (dk_at dksX8_seesHeld_3 5 rfl rfl)
theorem dX8_seesHeld_78 : decode cX8_seesHeld 78 = .ok (.aload_n 0, 1) := dk_42 (dk_at dksX8_seesHeld_3 6 rfl rfl)
theorem dX8_seesHeld_79 : decode cX8_seesHeld 79 = .ok (.getfield 7, 3) := dk_180 0 7 (dk_at dksX8_seesHeld_3 7 rfl rfl)
theorem dX8_seesHeld_82 : decode cX8_seesHeld 82 = .ok (.iload_n 3, 1) := dk_29 (dk_at dksX8_seesHeld_3 10 rfl rfl)
theorem dX8_seesHeld_83 : decode cX8_seesHeld 83 = .ok (.iload 6, 2) := dk_21 6 (dk_at dksX8_seesHeld_3 11 rfl rfl)
theorem dX8_seesHeld_85 : decode cX8_seesHeld 85 = .ok (.iadd, 1) := dk_96 (dk_at dksX8_seesHeld_3 13 rfl rfl)
theorem dX8_seesHeld_86 : decode cX8_seesHeld 86 = .ok (.iaload, 1) := dk_46 (dk_at dksX8_seesHeld_3 14 rfl rfl)
theorem dX8_seesHeld_87 : decode cX8_seesHeld 87 = .ok (.if_icmp .ne 7, 3) := dk_160 0 7 (dk_at dksX8_seesHeld_3 15 rfl rfl)
theorem dX8_seesHeld_90 : decode cX8_seesHeld 90 = .ok (.iconst 1, 1) := dk_4 (dk_at dksX8_seesHeld_3 18 rfl rfl)
theorem dX8_seesHeld_91 : decode cX8_seesHeld 91 = .ok (.goto 4, 3) := dk_167 0 4 (dk_at dksX8_seesHeld_3 19 rfl rfl)
theorem dX8_seesHeld_94 : decode cX8_seesHeld 94 = .ok (.iconst 0, 1) := dk_3 (dk_at dksX8_seesHeld_3 22 rfl rfl)
theorem dX8_seesHeld_95 : decode cX8_seesHeld 95 = .ok (.istore 5, 2) := dk_54 5 (dk_at dksX8_seesHeld_4 0 rfl rfl)
theorem dX8_seesHeld_97 : decode cX8_seesHeld 97 = .ok (.iinc 6 1, 3) := dk_132 6 1 (dk_at dksX8_seesHeld_4 2 rfl rfl)
theorem dX8_seesHeld_100 : decode cX8_seesHeld 100 = .ok (.goto (-43), 3) := dk_167 255 213 (dk_at dksX8_seesHeld_4 5 rfl rfl)
theorem dX8_seesHeld_103 : decode cX8_seesHeld 103 = .ok (.aload_n 0, 1) := dk_42 (dk_at dksX8_seesHeld_4 8 rfl rfl)
theorem dX8_seesHeld_104 : decode cX8_seesHeld 104 = .ok (.getfield 7, 3) := dk_180 0 7 (dk_at dksX8_seesHeld_4 9 rfl rfl)
theorem dX8_seesHeld_107 : decode cX8_seesHeld 107 = .ok (.iload 4, 2) := dk_21 4 (dk_at dksX8_seesHeld_4 12 rfl rfl)
theorem dX8_seesHeld_109 : decode cX8_seesHeld 109 = .ok (.iaload, 1) := dk_46 (dk_at dksX8_seesHeld_4 14 rfl rfl)
theorem dX8_seesHeld_110 : decode cX8_seesHeld 110 = .ok (.ifCond .eq 13, 3) := dk_153 0 13 (dk_at dksX8_seesHeld_4 15 rfl rfl)
theorem dX8_seesHeld_113 : decode cX8_seesHeld 113 = .ok (.iload 5, 2) := dk_21 5 (dk_at dksX8_seesHeld_4 18 rfl rfl)
theorem dX8_seesHeld_115 : decode cX8_seesHeld 115 = .ok (.ifCond .ne 7, 3) := dk_154 0 7 (dk_at dksX8_seesHeld_4 20 rfl rfl)
theorem dX8_seesHeld_118 : decode cX8_seesHeld 118 = .ok (.aload_n 0, 1) := dk_42 (dk_at dksX8_seesHeld_4 23 rfl rfl)
theorem dX8_seesHeld_119 : decode cX8_seesHeld 119 = .ok (.invokevirtual 304, 3) := dk_182 1 48 (dk_at dksX8_seesHeld_5 0 rfl rfl)
theorem dX8_seesHeld_122 : decode cX8_seesHeld 122 = .ok (.return_, 1) := dk_177 (dk_at dksX8_seesHeld_5 3 rfl rfl)
theorem dX8_seesHeld_123 : decode cX8_seesHeld 123 = .ok (.iconst 0, 1) := dk_3 (dk_at dksX8_seesHeld_5 4 rfl rfl)
theorem dX8_seesHeld_124 : decode cX8_seesHeld 124 = .ok (.istore 6, 2) := dk_54 6 (dk_at dksX8_seesHeld_5 5 rfl rfl)
theorem dX8_seesHeld_126 : decode cX8_seesHeld 126 = .ok (.iload 6, 2) := dk_21 6 (dk_at dksX8_seesHeld_5 7 rfl rfl)
theorem dX8_seesHeld_128 : decode cX8_seesHeld 128 = .ok (.iconst 4, 1) := dk_7 (dk_at dksX8_seesHeld_5 9 rfl rfl)
theorem dX8_seesHeld_129 : decode cX8_seesHeld 129 = .ok (.if_icmp .ge 28, 3) := dk_162 0 28 (dk_at dksX8_seesHeld_5 10 rfl rfl)
theorem dX8_seesHeld_132 : decode cX8_seesHeld 132 = .ok (.aload_n 0, 1) := dk_42 (dk_at dksX8_seesHeld_5 13 rfl rfl)
theorem dX8_seesHeld_133 : decode cX8_seesHeld 133 = .ok (.getfield 7, 3) := dk_180 0 7 (dk_at dksX8_seesHeld_5 14 rfl rfl)
theorem dX8_seesHeld_136 : decode cX8_seesHeld 136 = .ok (.iload 4, 2) := dk_21 4 (dk_at dksX8_seesHeld_5 17 rfl rfl)
theorem dX8_seesHeld_138 : decode cX8_seesHeld 138 = .ok (.iload 6, 2) := dk_21 6 (dk_at dksX8_seesHeld_5 19 rfl rfl)
theorem dX8_seesHeld_140 : decode cX8_seesHeld 140 = .ok (.iadd, 1) := dk_96 (dk_at dksX8_seesHeld_5 21 rfl rfl)
theorem dX8_seesHeld_141 : decode cX8_seesHeld 141 = .ok (.aload_n 0, 1) := dk_42 (dk_at dksX8_seesHeld_5 22 rfl rfl)
theorem dX8_seesHeld_142 : decode cX8_seesHeld 142 = .ok (.getfield 7, 3) := dk_180 0 7 (dk_at dksX8_seesHeld_6 0 rfl rfl)
theorem dX8_seesHeld_145 : decode cX8_seesHeld 145 = .ok (.iload_n 3, 1) := dk_29 (dk_at dksX8_seesHeld_6 3 rfl rfl)
theorem dX8_seesHeld_146 : decode cX8_seesHeld 146 = .ok (.iload 6, 2) := dk_21 6 (dk_at dksX8_seesHeld_6 4 rfl rfl)
theorem dX8_seesHeld_148 : decode cX8_seesHeld 148 = .ok (.iadd, 1) := dk_96 (dk_at dksX8_seesHeld_6 6 rfl rfl)
theorem dX8_seesHeld_149 : decode cX8_seesHeld 149 = .ok (.iaload, 1) := dk_46 (dk_at dksX8_seesHeld_6 7 rfl rfl)
theorem dX8_seesHeld_150 : decode cX8_seesHeld 150 = .ok (.iastore, 1) := dk_79 (dk_at dksX8_seesHeld_6 8 rfl rfl)
theorem dX8_seesHeld_151 : decode cX8_seesHeld 151 = .ok (.iinc 6 1, 3) := dk_132 6 1 (dk_at dksX8_seesHeld_6 9 rfl rfl)
theorem dX8_seesHeld_154 : decode cX8_seesHeld 154 = .ok (.goto (-28), 3) := dk_167 255 228 (dk_at dksX8_seesHeld_6 12 rfl rfl)
theorem dX8_seesHeld_157 : decode cX8_seesHeld 157 = .ok (.aload_n 0, 1) := dk_42 (dk_at dksX8_seesHeld_6 15 rfl rfl)
theorem dX8_seesHeld_158 : decode cX8_seesHeld 158 = .ok (.getfield 7, 3) := dk_180 0 7 (dk_at dksX8_seesHeld_6 16 rfl rfl)
theorem dX8_seesHeld_161 : decode cX8_seesHeld 161 = .ok (.sipush 11134, 3) := dk_17 43 126 (dk_at dksX8_seesHeld_6 19 rfl rfl)
theorem dX8_seesHeld_164 : decode cX8_seesHeld 164 = .ok (.aload_n 0, 1) := dk_42 (dk_at dksX8_seesHeld_6 22 rfl rfl)
theorem dX8_seesHeld_165 : decode cX8_seesHeld 165 = .ok (.getfield 7, 3) := dk_180 0 7 (dk_at dksX8_seesHeld_7 0 rfl rfl)
theorem dX8_seesHeld_168 : decode cX8_seesHeld 168 = .ok (.sipush 11134, 3) := dk_17 43 126 (dk_at dksX8_seesHeld_7 3 rfl rfl)
theorem dX8_seesHeld_171 : decode cX8_seesHeld 171 = .ok (.iaload, 1) := dk_46 (dk_at dksX8_seesHeld_7 6 rfl rfl)
theorem dX8_seesHeld_172 : decode cX8_seesHeld 172 = .ok (.iload_n 2, 1) := dk_28 (dk_at dksX8_seesHeld_7 7 rfl rfl)
theorem dX8_seesHeld_173 : decode cX8_seesHeld 173 = .ok (.invokestatic 130, 3) := dk_184 0 130 (dk_at dksX8_seesHeld_7 8 rfl rfl)
theorem dX8_seesHeld_176 : decode cX8_seesHeld 176 = .ok (.iastore, 1) := dk_79 (dk_at dksX8_seesHeld_7 11 rfl rfl)
theorem dX8_seesHeld_177 : decode cX8_seesHeld 177 = .ok (.aload_n 0, 1) := dk_42 (dk_at dksX8_seesHeld_7 12 rfl rfl)
theorem dX8_seesHeld_178 : decode cX8_seesHeld 178 = .ok (.aload_n 0, 1) := dk_42 (dk_at dksX8_seesHeld_7 13 rfl rfl)
theorem dX8_seesHeld_179 : decode cX8_seesHeld 179 = .ok (.getfield 320, 3) := dk_180 1 64 (dk_at dksX8_seesHeld_7 14 rfl rfl)
theorem dX8_seesHeld_182 : decode cX8_seesHeld 182 = .ok (.iconst 1, 1) := dk_4 (dk_at dksX8_seesHeld_7 17 rfl rfl)
theorem dX8_seesHeld_183 : decode cX8_seesHeld 183 = .ok (.iadd, 1) := dk_96 (dk_at dksX8_seesHeld_7 18 rfl rfl)
theorem dX8_seesHeld_184 : decode cX8_seesHeld 184 = .ok (.putfield 320, 3) := dk_181 1 64 (dk_at dksX8_seesHeld_7 19 rfl rfl)
theorem dX8_seesHeld_187 : decode cX8_seesHeld 187 = .ok (.return_, 1) := dk_177 (dk_at dksX8_seesHeld_7 22 rfl rfl)
abbrev cX8_isHeldConfig : ByteArray := prog_18_method_21_code
def yX8_isHeldConfig : MethodName := ⟨RX8, "isHeldConfig", "(I)Z"⟩
def dkwX8_isHeldConfig_0 : List UInt8 := [42, 27, 17, 3, 231, 182, 0, 118, 42, 27, 16, 9, 182, 0, 101, 163, 0, 7, 4, 167, 0, 4, 3, 172]
abbrev dktX8_isHeldConfig_0 : List UInt8 := dkwX8_isHeldConfig_0 ++ []
theorem dksX8_isHeldConfig_0 : cX8_isHeldConfig.data.toList.drop 0 = dktX8_isHeldConfig_0 := by decide +kernel
theorem dX8_isHeldConfig_0 : decode cX8_isHeldConfig 0 = .ok (.aload_n 0, 1) := dk_42 (dk_at dksX8_isHeldConfig_0 0 rfl rfl)
theorem dX8_isHeldConfig_1 : decode cX8_isHeldConfig 1 = .ok (.iload_n 1, 1) := dk_27 (dk_at dksX8_isHeldConfig_0 1 rfl rfl)
theorem dX8_isHeldConfig_2 : decode cX8_isHeldConfig 2 = .ok (.sipush 999, 3) := dk_17 3 231 (dk_at dksX8_isHeldConfig_0 2 rfl rfl)
theorem dX8_isHeldConfig_5 : decode cX8_isHeldConfig 5 = .ok (.invokevirtual 118, 3) := dk_182 0 118 (dk_at dksX8_isHeldConfig_0 5 rfl rfl)
theorem dX8_isHeldConfig_8 : decode cX8_isHeldConfig 8 = .ok (.aload_n 0, 1) := dk_42 (dk_at dksX8_isHeldConfig_0 8 rfl rfl)
theorem dX8_isHeldConfig_9 : decode cX8_isHeldConfig 9 = .ok (.iload_n 1, 1) := dk_27 (dk_at dksX8_isHeldConfig_0 9 rfl rfl)
theorem dX8_isHeldConfig_10 : decode cX8_isHeldConfig 10 = .ok (.bipush 9, 2) := dk_16 9 (dk_at dksX8_isHeldConfig_0 10 rfl rfl)
theorem dX8_isHeldConfig_12 : decode cX8_isHeldConfig 12 = .ok (.invokevirtual 101, 3) := dk_182 0 101 (dk_at dksX8_isHeldConfig_0 12 rfl rfl)
theorem dX8_isHeldConfig_15 : decode cX8_isHeldConfig 15 = .ok (.if_icmp .gt 7, 3) := dk_163 0 7 (dk_at dksX8_isHeldConfig_0 15 rfl rfl)
theorem dX8_isHeldConfig_18 : decode cX8_isHeldConfig 18 = .ok (.iconst 1, 1) := dk_4 (dk_at dksX8_isHeldConfig_0 18 rfl rfl)
theorem dX8_isHeldConfig_19 : decode cX8_isHeldConfig 19 = .ok (.goto 4, 3) := dk_167 0 4 (dk_at dksX8_isHeldConfig_0 19 rfl rfl)
theorem dX8_isHeldConfig_22 : decode cX8_isHeldConfig 22 = .ok (.iconst 0, 1) := dk_3 (dk_at dksX8_isHeldConfig_0 22 rfl rfl)
theorem dX8_isHeldConfig_23 : decode cX8_isHeldConfig 23 = .ok (.ireturn, 1) := dk_172 (dk_at dksX8_isHeldConfig_0 23 rfl rfl)
abbrev cX8_hasEntries : ByteArray := prog_18_method_85_code
def yX8_hasEntries : MethodName := ⟨RX8, "hasEntries", "(I)V"⟩
def dkwX8_hasEntries_8 : List UInt8 := [21, 4, 29, 182, 1, 115, 177]
abbrev dktX8_hasEntries_8 : List UInt8 := dkwX8_hasEntries_8 ++ []
def dkwX8_hasEntries_7 : List UInt8 := [167, 255, 216, 42, 27, 42, 180, 0, 22, 16, 8, 46, 21, 4, 184, 0, 115, 182, 1, 79, 42, 6, 4]
abbrev dktX8_hasEntries_7 : List UInt8 := dkwX8_hasEntries_7 ++ dktX8_hasEntries_8
def dkwX8_hasEntries_6 : List UInt8 := [4, 96, 16, 11, 7, 21, 4, 28, 100, 104, 96, 182, 1, 122, 153, 0, 12, 21, 4, 4, 96, 54, 4]
abbrev dktX8_hasEntries_6 : List UInt8 := dkwX8_hasEntries_6 ++ dktX8_hasEntries_7
def dkwX8_hasEntries_5 : List UInt8 := [182, 1, 115, 177, 28, 54, 4, 21, 4, 28, 42, 180, 0, 22, 8, 46, 96, 162, 0, 33, 42, 27, 21, 4]
abbrev dktX8_hasEntries_5 : List UInt8 := dkwX8_hasEntries_5 ++ dktX8_hasEntries_6
def dkwX8_hasEntries_4 : List UInt8 := [182, 0, 137, 42, 180, 0, 22, 16, 7, 46, 159, 0, 17, 42, 6, 3, 42, 27, 28, 182, 1, 119, 29]
abbrev dktX8_hasEntries_4 : List UInt8 := dkwX8_hasEntries_4 ++ dktX8_hasEntries_5
def dkwX8_hasEntries_3 : List UInt8 := [182, 0, 108, 4, 96, 29, 182, 1, 115, 177, 28, 42, 27, 7, 182, 0, 101, 161, 0, 33, 42, 27, 28]
abbrev dktX8_hasEntries_3 : List UInt8 := dkwX8_hasEntries_3 ++ dktX8_hasEntries_4
def dkwX8_hasEntries_2 : List UInt8 := [182, 1, 85, 42, 27, 182, 1, 39, 28, 42, 27, 182, 0, 108, 164, 0, 18, 42, 6, 3, 42, 27]
abbrev dktX8_hasEntries_2 : List UInt8 := dkwX8_hasEntries_2 ++ dktX8_hasEntries_3
def dkwX8_hasEntries_1 : List UInt8 := [4, 182, 0, 101, 162, 0, 12, 42, 6, 3, 4, 3, 182, 1, 115, 177, 42, 27, 42, 180, 0, 22, 3, 46]
abbrev dktX8_hasEntries_1 : List UInt8 := dkwX8_hasEntries_1 ++ dktX8_hasEntries_2
def dkwX8_hasEntries_0 : List UInt8 := [42, 180, 0, 22, 16, 6, 46, 61, 42, 180, 0, 22, 16, 10, 46, 62, 42, 180, 0, 22, 6, 46, 42, 27]
abbrev dktX8_hasEntries_0 : List UInt8 := dkwX8_hasEntries_0 ++ dktX8_hasEntries_1
theorem dksX8_hasEntries_0 : cX8_hasEntries.data.toList.drop 0 = dktX8_hasEntries_0 := by decide +kernel
theorem dksX8_hasEntries_1 : cX8_hasEntries.data.toList.drop 24 = dktX8_hasEntries_1 := dk_seg dksX8_hasEntries_0 24 rfl rfl
theorem dksX8_hasEntries_2 : cX8_hasEntries.data.toList.drop 48 = dktX8_hasEntries_2 := dk_seg dksX8_hasEntries_1 24 rfl rfl
theorem dksX8_hasEntries_3 : cX8_hasEntries.data.toList.drop 70 = dktX8_hasEntries_3 := dk_seg dksX8_hasEntries_2 22 rfl rfl
theorem dksX8_hasEntries_4 : cX8_hasEntries.data.toList.drop 93 = dktX8_hasEntries_4 := dk_seg dksX8_hasEntries_3 23 rfl rfl
theorem dksX8_hasEntries_5 : cX8_hasEntries.data.toList.drop 116 = dktX8_hasEntries_5 := dk_seg dksX8_hasEntries_4 23 rfl rfl
theorem dksX8_hasEntries_6 : cX8_hasEntries.data.toList.drop 140 = dktX8_hasEntries_6 := dk_seg dksX8_hasEntries_5 24 rfl rfl
theorem dksX8_hasEntries_7 : cX8_hasEntries.data.toList.drop 163 = dktX8_hasEntries_7 := dk_seg dksX8_hasEntries_6 23 rfl rfl
theorem dksX8_hasEntries_8 : cX8_hasEntries.data.toList.drop 186 = dktX8_hasEntries_8 := dk_seg dksX8_hasEntries_7 23 rfl rfl
theorem dX8_hasEntries_0 : decode cX8_hasEntries 0 = .ok (.aload_n 0, 1) := dk_42 (dk_at dksX8_hasEntries_0 0 rfl rfl)
theorem dX8_hasEntries_1 : decode cX8_hasEntries 1 = .ok (.getfield 22, 3) := dk_180 0 22 (dk_at dksX8_hasEntries_0 1 rfl rfl)
theorem dX8_hasEntries_4 : decode cX8_hasEntries 4 = .ok (.bipush 6, 2) := dk_16 6 (dk_at dksX8_hasEntries_0 4 rfl rfl)
theorem dX8_hasEntries_6 : decode cX8_hasEntries 6 = .ok (.iaload, 1) := dk_46 (dk_at dksX8_hasEntries_0 6 rfl rfl)
theorem dX8_hasEntries_7 : decode cX8_hasEntries 7 = .ok (.istore_n 2, 1) := dk_61 (dk_at dksX8_hasEntries_0 7 rfl rfl)
theorem dX8_hasEntries_8 : decode cX8_hasEntries 8 = .ok (.aload_n 0, 1) := dk_42 (dk_at dksX8_hasEntries_0 8 rfl rfl)
theorem dX8_hasEntries_9 : decode cX8_hasEntries 9 = .ok (.getfield 22, 3) := dk_180 0 22 (dk_at dksX8_hasEntries_0 9 rfl rfl)
theorem dX8_hasEntries_12 : decode cX8_hasEntries 12 = .ok (.bipush 10, 2) := dk_16 10 (dk_at dksX8_hasEntries_0 12 rfl rfl)
theorem dX8_hasEntries_14 : decode cX8_hasEntries 14 = .ok (.iaload, 1) := dk_46 (dk_at dksX8_hasEntries_0 14 rfl rfl)
theorem dX8_hasEntries_15 : decode cX8_hasEntries 15 = .ok (.istore_n 3, 1) := dk_62 (dk_at dksX8_hasEntries_0 15 rfl rfl)
theorem dX8_hasEntries_16 : decode cX8_hasEntries 16 = .ok (.aload_n 0, 1) := dk_42 (dk_at dksX8_hasEntries_0 16 rfl rfl)
theorem dX8_hasEntries_17 : decode cX8_hasEntries 17 = .ok (.getfield 22, 3) := dk_180 0 22 (dk_at dksX8_hasEntries_0 17 rfl rfl)
theorem dX8_hasEntries_20 : decode cX8_hasEntries 20 = .ok (.iconst 3, 1) := dk_6 (dk_at dksX8_hasEntries_0 20 rfl rfl)
theorem dX8_hasEntries_21 : decode cX8_hasEntries 21 = .ok (.iaload, 1) := dk_46 (dk_at dksX8_hasEntries_0 21 rfl rfl)
theorem dX8_hasEntries_22 : decode cX8_hasEntries 22 = .ok (.aload_n 0, 1) := dk_42 (dk_at dksX8_hasEntries_0 22 rfl rfl)
theorem dX8_hasEntries_23 : decode cX8_hasEntries 23 = .ok (.iload_n 1, 1) := dk_27 (dk_at dksX8_hasEntries_0 23 rfl rfl)
theorem dX8_hasEntries_24 : decode cX8_hasEntries 24 = .ok (.iconst 1, 1) := dk_4 (dk_at dksX8_hasEntries_1 0 rfl rfl)
theorem dX8_hasEntries_25 : decode cX8_hasEntries 25 = .ok (.invokevirtual 101, 3) := dk_182 0 101 (dk_at dksX8_hasEntries_1 1 rfl rfl)
theorem dX8_hasEntries_28 : decode cX8_hasEntries 28 = .ok (.if_icmp .ge 12, 3) := dk_162 0 12 (dk_at dksX8_hasEntries_1 4 rfl rfl)
theorem dX8_hasEntries_31 : decode cX8_hasEntries 31 = .ok (.aload_n 0, 1) := dk_42 (dk_at dksX8_hasEntries_1 7 rfl rfl)
theorem dX8_hasEntries_32 : decode cX8_hasEntries 32 = .ok (.iconst 3, 1) := dk_6 (dk_at dksX8_hasEntries_1 8 rfl rfl)
theorem dX8_hasEntries_33 : decode cX8_hasEntries 33 = .ok (.iconst 0, 1) := dk_3 (dk_at dksX8_hasEntries_1 9 rfl rfl)
theorem dX8_hasEntries_34 : decode cX8_hasEntries 34 = .ok (.iconst 1, 1) := dk_4 (dk_at dksX8_hasEntries_1 10 rfl rfl)
theorem dX8_hasEntries_35 : decode cX8_hasEntries 35 = .ok (.iconst 0, 1) := dk_3 (dk_at dksX8_hasEntries_1 11 rfl rfl)
theorem dX8_hasEntries_36 : decode cX8_hasEntries 36 = .ok (.invokevirtual 371, 3) := dk_182 1 115 (dk_at dksX8_hasEntries_1 12 rfl rfl)
theorem dX8_hasEntries_39 : decode cX8_hasEntries 39 = .ok (.return_, 1) := dk_177 (dk_at dksX8_hasEntries_1 15 rfl rfl)
theorem dX8_hasEntries_40 : decode cX8_hasEntries 40 = .ok (.aload_n 0, 1) := dk_42 (dk_at dksX8_hasEntries_1 16 rfl rfl)
theorem dX8_hasEntries_41 : decode cX8_hasEntries 41 = .ok (.iload_n 1, 1) := dk_27 (dk_at dksX8_hasEntries_1 17 rfl rfl)
theorem dX8_hasEntries_42 : decode cX8_hasEntries 42 = .ok (.aload_n 0, 1) := dk_42 (dk_at dksX8_hasEntries_1 18 rfl rfl)
theorem dX8_hasEntries_43 : decode cX8_hasEntries 43 = .ok (.getfield 22, 3) := dk_180 0 22 (dk_at dksX8_hasEntries_1 19 rfl rfl)
theorem dX8_hasEntries_46 : decode cX8_hasEntries 46 = .ok (.iconst 0, 1) := dk_3 (dk_at dksX8_hasEntries_1 22 rfl rfl)
theorem dX8_hasEntries_47 : decode cX8_hasEntries 47 = .ok (.iaload, 1) := dk_46 (dk_at dksX8_hasEntries_1 23 rfl rfl)
theorem dX8_hasEntries_48 : decode cX8_hasEntries 48 = .ok (.invokevirtual 341, 3) := dk_182 1 85 (dk_at dksX8_hasEntries_2 0 rfl rfl)
theorem dX8_hasEntries_51 : decode cX8_hasEntries 51 = .ok (.aload_n 0, 1) := dk_42 (dk_at dksX8_hasEntries_2 3 rfl rfl)
theorem dX8_hasEntries_52 : decode cX8_hasEntries 52 = .ok (.iload_n 1, 1) := dk_27 (dk_at dksX8_hasEntries_2 4 rfl rfl)
theorem dX8_hasEntries_53 : decode cX8_hasEntries 53 = .ok (.invokevirtual 295, 3) := dk_182 1 39 (dk_at dksX8_hasEntries_2 5 rfl rfl)
theorem dX8_hasEntries_56 : decode cX8_hasEntries 56 = .ok (.iload_n 2, 1) := dk_28 (dk_at dksX8_hasEntries_2 8 rfl rfl)
theorem dX8_hasEntries_57 : decode cX8_hasEntries 57 = .ok (.aload_n 0, 1) := dk_42 (dk_at dksX8_hasEntries_2 9 rfl rfl)
theorem dX8_hasEntries_58 : decode cX8_hasEntries 58 = .ok (.iload_n 1, 1) := dk_27 (dk_at dksX8_hasEntries_2 10 rfl rfl)
theorem dX8_hasEntries_59 : decode cX8_hasEntries 59 = .ok (.invokevirtual 108, 3) := dk_182 0 108 (dk_at dksX8_hasEntries_2 11 rfl rfl)
theorem dX8_hasEntries_62 : decode cX8_hasEntries 62 = .ok (.if_icmp .le 18, 3) := dk_164 0 18 (dk_at dksX8_hasEntries_2 14 rfl rfl)
theorem dX8_hasEntries_65 : decode cX8_hasEntries 65 = .ok (.aload_n 0, 1) := dk_42 (dk_at dksX8_hasEntries_2 17 rfl rfl)
theorem dX8_hasEntries_66 : decode cX8_hasEntries 66 = .ok (.iconst 3, 1) := dk_6 (dk_at dksX8_hasEntries_2 18 rfl rfl)
theorem dX8_hasEntries_67 : decode cX8_hasEntries 67 = .ok (.iconst 0, 1) := dk_3 (dk_at dksX8_hasEntries_2 19 rfl rfl)
theorem dX8_hasEntries_68 : decode cX8_hasEntries 68 = .ok (.aload_n 0, 1) := dk_42 (dk_at dksX8_hasEntries_2 20 rfl rfl)
theorem dX8_hasEntries_69 : decode cX8_hasEntries 69 = .ok (.iload_n 1, 1) := dk_27 (dk_at dksX8_hasEntries_2 21 rfl rfl)
theorem dX8_hasEntries_70 : decode cX8_hasEntries 70 = .ok (.invokevirtual 108, 3) := dk_182 0 108 (dk_at dksX8_hasEntries_3 0 rfl rfl)
theorem dX8_hasEntries_73 : decode cX8_hasEntries 73 = .ok (.iconst 1, 1) := dk_4 (dk_at dksX8_hasEntries_3 3 rfl rfl)
theorem dX8_hasEntries_74 : decode cX8_hasEntries 74 = .ok (.iadd, 1) := dk_96 (dk_at dksX8_hasEntries_3 4 rfl rfl)
theorem dX8_hasEntries_75 : decode cX8_hasEntries 75 = .ok (.iload_n 3, 1) := dk_29 (dk_at dksX8_hasEntries_3 5 rfl rfl)
theorem dX8_hasEntries_76 : decode cX8_hasEntries 76 = .ok (.invokevirtual 371, 3) := dk_182 1 115 (dk_at dksX8_hasEntries_3 6 rfl rfl)
theorem dX8_hasEntries_79 : decode cX8_hasEntries 79 = .ok (.return_, 1) := dk_177 (dk_at dksX8_hasEntries_3 9 rfl rfl)
theorem dX8_hasEntries_80 : decode cX8_hasEntries 80 = .ok (.iload_n 2, 1) := dk_28 (dk_at dksX8_hasEntries_3 10 rfl rfl)
theorem dX8_hasEntries_81 : decode cX8_hasEntries 81 = .ok (.aload_n 0, 1) := dk_42 (dk_at dksX8_hasEntries_3 11 rfl rfl)
theorem dX8_hasEntries_82 : decode cX8_hasEntries 82 = .ok (.iload_n 1, 1) := dk_27 (dk_at dksX8_hasEntries_3 12 rfl rfl)
theorem dX8_hasEntries_83 : decode cX8_hasEntries 83 = .ok (.iconst 4, 1) := dk_7 (dk_at dksX8_hasEntries_3 13 rfl rfl)
theorem dX8_hasEntries_84 : decode cX8_hasEntries 84 = .ok (.invokevirtual 101, 3) := dk_182 0 101 (dk_at dksX8_hasEntries_3 14 rfl rfl)
theorem dX8_hasEntries_87 : decode cX8_hasEntries 87 = .ok (.if_icmp .lt 33, 3) := dk_161 0 33 (dk_at dksX8_hasEntries_3 17 rfl rfl)
theorem dX8_hasEntries_90 : decode cX8_hasEntries 90 = .ok (.aload_n 0, 1) := dk_42 (dk_at dksX8_hasEntries_3 20 rfl rfl)
theorem dX8_hasEntries_91 : decode cX8_hasEntries 91 = .ok (.iload_n 1, 1) := dk_27 (dk_at dksX8_hasEntries_3 21 rfl rfl)
theorem dX8_hasEntries_92 : decode cX8_hasEntries 92 = .ok (.iload_n 2, 1) := dk_28 (dk_at dksX8_hasEntries_3 22 rfl rfl)
theorem dX8_hasEntries_93 : decode cX8_hasEntries 93 = .ok (.invokevirtual 137, 3) := dk_182 0 137 (dk_at dksX8_hasEntries_4 0 rfl rfl)
theorem dX8_hasEntries_96 : decode cX8_hasEntries 96 = .ok (.aload_n 0, 1) := dk_42 (dk_at dksX8_hasEntries_4 3 rfl rfl)
theorem dX8_hasEntries_97 : decode cX8_hasEntries 97 = .ok (.getfield 22, 3) := dk_180 0 22 (dk_at dksX8_hasEntries_4 4 rfl rfl)
theorem dX8_hasEntries_100 : decode cX8_hasEntries 100 = .ok (.bipush 7, 2) := dk_16 7 (dk_at dksX8_hasEntries_4 7 rfl rfl)
theorem dX8_hasEntries_102 : decode cX8_hasEntries 102 = .ok (.iaload, 1) := dk_46 (dk_at dksX8_hasEntries_4 9 rfl rfl)
theorem dX8_hasEntries_103 : decode cX8_hasEntries 103 = .ok (.if_icmp .eq 17, 3) := dk_159 0 17 (dk_at dksX8_hasEntries_4 10 rfl rfl)
theorem dX8_hasEntries_106 : decode cX8_hasEntries 106 = .ok (.aload_n 0, 1) := dk_42 (dk_at dksX8_hasEntries_4 13 rfl rfl)
theorem dX8_hasEntries_107 : decode cX8_hasEntries 107 = .ok (.iconst 3, 1) := dk_6 (dk_at dksX8_hasEntries_4 14 rfl rfl)
theorem dX8_hasEntries_108 : decode cX8_hasEntries 108 = .ok (.iconst 0, 1) := dk_3 (dk_at dksX8_hasEntries_4 15 rfl rfl)
theorem dX8_hasEntries_109 : decode cX8_hasEntries 109 = .ok (.aload_n 0, 1) := dk_42 (dk_at dksX8_hasEntries_4 16 rfl rfl)
theorem dX8_hasEntries_110 : decode cX8_hasEntries 110 = .ok (.iload_n 1, 1) := dk_27 (dk_at dksX8_hasEntries_4 17 rfl rfl)
theorem dX8_hasEntries_111 : decode cX8_hasEntries 111 = .ok (.iload_n 2, 1) := dk_28 (dk_at dksX8_hasEntries_4 18 rfl rfl)
theorem dX8_hasEntries_112 : decode cX8_hasEntries 112 = .ok (.invokevirtual 375, 3) := dk_182 1 119 (dk_at dksX8_hasEntries_4 19 rfl rfl)
theorem dX8_hasEntries_115 : decode cX8_hasEntries 115 = .ok (.iload_n 3, 1) := dk_29 (dk_at dksX8_hasEntries_4 22 rfl rfl)
theorem dX8_hasEntries_116 : decode cX8_hasEntries 116 = .ok (.invokevirtual 371, 3) := dk_182 1 115 (dk_at dksX8_hasEntries_5 0 rfl rfl)
theorem dX8_hasEntries_119 : decode cX8_hasEntries 119 = .ok (.return_, 1) := dk_177 (dk_at dksX8_hasEntries_5 3 rfl rfl)
theorem dX8_hasEntries_120 : decode cX8_hasEntries 120 = .ok (.iload_n 2, 1) := dk_28 (dk_at dksX8_hasEntries_5 4 rfl rfl)
theorem dX8_hasEntries_121 : decode cX8_hasEntries 121 = .ok (.istore 4, 2) := dk_54 4 (dk_at dksX8_hasEntries_5 5 rfl rfl)
theorem dX8_hasEntries_123 : decode cX8_hasEntries 123 = .ok (.iload 4, 2) := dk_21 4 (dk_at dksX8_hasEntries_5 7 rfl rfl)
theorem dX8_hasEntries_125 : decode cX8_hasEntries 125 = .ok (.iload_n 2, 1) := dk_28 (dk_at dksX8_hasEntries_5 9 rfl rfl)
theorem dX8_hasEntries_126 : decode cX8_hasEntries 126 = .ok (.aload_n 0, 1) := dk_42 (dk_at dksX8_hasEntries_5 10 rfl rfl)
theorem dX8_hasEntries_127 : decode cX8_hasEntries 127 = .ok (.getfield 22, 3) := dk_180 0 22 (dk_at dksX8_hasEntries_5 11 rfl rfl)
theorem dX8_hasEntries_130 : decode cX8_hasEntries 130 = .ok (.iconst 5, 1) := dk_8 (dk_at dksX8_hasEntries_5 14 rfl rfl)
theorem dX8_hasEntries_131 : decode cX8_hasEntries 131 = .ok (.iaload, 1) := dk_46 (dk_at dksX8_hasEntries_5 15 rfl rfl)
theorem dX8_hasEntries_132 : decode cX8_hasEntries 132 = .ok (.iadd, 1) := dk_96 (dk_at dksX8_hasEntries_5 16 rfl rfl)
theorem dX8_hasEntries_133 : decode cX8_hasEntries 133 = .ok (.if_icmp .ge 33, 3) := dk_162 0 33 (dk_at dksX8_hasEntries_5 17 rfl rfl)
theorem dX8_hasEntries_136 : decode cX8_hasEntries 136 = .ok (.aload_n 0, 1) := dk_42 (dk_at dksX8_hasEntries_5 20 rfl rfl)
theorem dX8_hasEntries_137 : decode cX8_hasEntries 137 = .ok (.iload_n 1, 1) := dk_27 (dk_at dksX8_hasEntries_5 21 rfl rfl)
theorem dX8_hasEntries_138 : decode cX8_hasEntries 138 = .ok (.iload 4, 2) := dk_21 4 (dk_at dksX8_hasEntries_5 22 rfl rfl)
theorem dX8_hasEntries_140 : decode cX8_hasEntries 140 = .ok (.iconst 1, 1) := dk_4 (dk_at dksX8_hasEntries_6 0 rfl rfl)
theorem dX8_hasEntries_141 : decode cX8_hasEntries 141 = .ok (.iadd, 1) := dk_96 (dk_at dksX8_hasEntries_6 1 rfl rfl)
theorem dX8_hasEntries_142 : decode cX8_hasEntries 142 = .ok (.bipush 11, 2) := dk_16 11 (dk_at dksX8_hasEntries_6 2 rfl rfl)
theorem dX8_hasEntries_144 : decode cX8_hasEntries 144 = .ok (.iconst 4, 1) := dk_7 (dk_at dksX8_hasEntries_6 4 rfl rfl)
theorem dX8_hasEntries_145 : decode cX8_hasEntries 145 = .ok (.iload 4, 2) := dk_21 4 (dk_at dksX8_hasEntries_6 5 rfl rfl)
theorem dX8_hasEntries_147 : decode cX8_hasEntries 147 = .ok (.iload_n 2, 1) := dk_28 (dk_at dksX8_hasEntries_6 7 rfl rfl)
theorem dX8_hasEntries_148 : decode cX8_hasEntries 148 = .ok (.isub, 1) := dk_100 (dk_at dksX8_hasEntries_6 8 rfl rfl)
theorem dX8_hasEntries_149 : decode cX8_hasEntries 149 = .ok (.imul, 1) := dk_104 (dk_at dksX8_hasEntries_6 9 rfl rfl)
theorem dX8_hasEntries_150 : decode cX8_hasEntries 150 = .ok (.iadd, 1) := dk_96 (dk_at dksX8_hasEntries_6 10 rfl rfl)
theorem dX8_hasEntries_151 : decode cX8_hasEntries 151 = .ok (.invokevirtual 378, 3) := dk_182 1 122 (dk_at dksX8_hasEntries_6 11 rfl rfl)
theorem dX8_hasEntries_154 : decode cX8_hasEntries 154 = .ok (.ifCond .eq 12, 3) := dk_153 0 12 (dk_at dksX8_hasEntries_6 14 rfl rfl)
theorem dX8_hasEntries_157 : decode cX8_hasEntries 157 = .ok (.iload 4, 2) := dk_21 4 (dk_at dksX8_hasEntries_6 17 rfl rfl)
theorem dX8_hasEntries_159 : decode cX8_hasEntries 159 = .ok (.iconst 1, 1) := dk_4 (dk_at dksX8_hasEntries_6 19 rfl rfl)
theorem dX8_hasEntries_160 : decode cX8_hasEntries 160 = .ok (.iadd, 1) := dk_96 (dk_at dksX8_hasEntries_6 20 rfl rfl)
theorem dX8_hasEntries_161 : decode cX8_hasEntries 161 = .ok (.istore 4, 2) := dk_54 4 (dk_at dksX8_hasEntries_6 21 rfl rfl)
theorem dX8_hasEntries_163 : decode cX8_hasEntries 163 = .ok (.goto (-40), 3) := dk_167 255 216 (dk_at dksX8_hasEntries_7 0 rfl rfl)
theorem dX8_hasEntries_166 : decode cX8_hasEntries 166 = .ok (.aload_n 0, 1) := dk_42 (dk_at dksX8_hasEntries_7 3 rfl rfl)
theorem dX8_hasEntries_167 : decode cX8_hasEntries 167 = .ok (.iload_n 1, 1) := dk_27 (dk_at dksX8_hasEntries_7 4 rfl rfl)
theorem dX8_hasEntries_168 : decode cX8_hasEntries 168 = .ok (.aload_n 0, 1) := dk_42 (dk_at dksX8_hasEntries_7 5 rfl rfl)
theorem dX8_hasEntries_169 : decode cX8_hasEntries 169 = .ok (.getfield 22, 3) := dk_180 0 22 (dk_at dksX8_hasEntries_7 6 rfl rfl)
theorem dX8_hasEntries_172 : decode cX8_hasEntries 172 = .ok (.bipush 8, 2) := dk_16 8 (dk_at dksX8_hasEntries_7 9 rfl rfl)
theorem dX8_hasEntries_174 : decode cX8_hasEntries 174 = .ok (.iaload, 1) := dk_46 (dk_at dksX8_hasEntries_7 11 rfl rfl)
theorem dX8_hasEntries_175 : decode cX8_hasEntries 175 = .ok (.iload 4, 2) := dk_21 4 (dk_at dksX8_hasEntries_7 12 rfl rfl)
theorem dX8_hasEntries_177 : decode cX8_hasEntries 177 = .ok (.invokestatic 115, 3) := dk_184 0 115 (dk_at dksX8_hasEntries_7 14 rfl rfl)
theorem dX8_hasEntries_180 : decode cX8_hasEntries 180 = .ok (.invokevirtual 335, 3) := dk_182 1 79 (dk_at dksX8_hasEntries_7 17 rfl rfl)
theorem dX8_hasEntries_183 : decode cX8_hasEntries 183 = .ok (.aload_n 0, 1) := dk_42 (dk_at dksX8_hasEntries_7 20 rfl rfl)
theorem dX8_hasEntries_184 : decode cX8_hasEntries 184 = .ok (.iconst 3, 1) := dk_6 (dk_at dksX8_hasEntries_7 21 rfl rfl)
theorem dX8_hasEntries_185 : decode cX8_hasEntries 185 = .ok (.iconst 1, 1) := dk_4 (dk_at dksX8_hasEntries_7 22 rfl rfl)
theorem dX8_hasEntries_186 : decode cX8_hasEntries 186 = .ok (.iload 4, 2) := dk_21 4 (dk_at dksX8_hasEntries_8 0 rfl rfl)
theorem dX8_hasEntries_188 : decode cX8_hasEntries 188 = .ok (.iload_n 3, 1) := dk_29 (dk_at dksX8_hasEntries_8 2 rfl rfl)
theorem dX8_hasEntries_189 : decode cX8_hasEntries 189 = .ok (.invokevirtual 371, 3) := dk_182 1 115 (dk_at dksX8_hasEntries_8 3 rfl rfl)
theorem dX8_hasEntries_192 : decode cX8_hasEntries 192 = .ok (.return_, 1) := dk_177 (dk_at dksX8_hasEntries_8 6 rfl rfl)
abbrev cX8_firstOfTerm : ByteArray := prog_18_method_84_code
def yX8_firstOfTerm : MethodName := ⟨RX8, "firstOfTerm", "(II)I"⟩
def dkwX8_firstOfTerm_2 : List UInt8 := [4, 100, 62, 167, 255, 223, 29, 172]
abbrev dktX8_firstOfTerm_2 : List UInt8 := dkwX8_firstOfTerm_2 ++ []
def dkwX8_firstOfTerm_1 : List UInt8 := [182, 0, 101, 164, 0, 27, 42, 27, 29, 4, 100, 182, 0, 137, 42, 27, 28, 182, 0, 137, 160, 0, 10, 29]
abbrev dktX8_firstOfTerm_1 : List UInt8 := dkwX8_firstOfTerm_1 ++ dktX8_firstOfTerm_2
def dkwX8_firstOfTerm_0 : List UInt8 := [28, 42, 27, 7, 182, 0, 101, 160, 0, 9, 4, 28, 184, 0, 130, 172, 28, 62, 29, 4, 100, 42, 27, 7]
abbrev dktX8_firstOfTerm_0 : List UInt8 := dkwX8_firstOfTerm_0 ++ dktX8_firstOfTerm_1
theorem dksX8_firstOfTerm_0 : cX8_firstOfTerm.data.toList.drop 0 = dktX8_firstOfTerm_0 := by decide +kernel
theorem dksX8_firstOfTerm_1 : cX8_firstOfTerm.data.toList.drop 24 = dktX8_firstOfTerm_1 := dk_seg dksX8_firstOfTerm_0 24 rfl rfl
theorem dksX8_firstOfTerm_2 : cX8_firstOfTerm.data.toList.drop 48 = dktX8_firstOfTerm_2 := dk_seg dksX8_firstOfTerm_1 24 rfl rfl
theorem dX8_firstOfTerm_0 : decode cX8_firstOfTerm 0 = .ok (.iload_n 2, 1) := dk_28 (dk_at dksX8_firstOfTerm_0 0 rfl rfl)
theorem dX8_firstOfTerm_1 : decode cX8_firstOfTerm 1 = .ok (.aload_n 0, 1) := dk_42 (dk_at dksX8_firstOfTerm_0 1 rfl rfl)
theorem dX8_firstOfTerm_2 : decode cX8_firstOfTerm 2 = .ok (.iload_n 1, 1) := dk_27 (dk_at dksX8_firstOfTerm_0 2 rfl rfl)
theorem dX8_firstOfTerm_3 : decode cX8_firstOfTerm 3 = .ok (.iconst 4, 1) := dk_7 (dk_at dksX8_firstOfTerm_0 3 rfl rfl)
theorem dX8_firstOfTerm_4 : decode cX8_firstOfTerm 4 = .ok (.invokevirtual 101, 3) := dk_182 0 101 (dk_at dksX8_firstOfTerm_0 4 rfl rfl)
theorem dX8_firstOfTerm_7 : decode cX8_firstOfTerm 7 = .ok (.if_icmp .ne 9, 3) := dk_160 0 9 (dk_at dksX8_firstOfTerm_0 7 rfl rfl)
theorem dX8_firstOfTerm_10 : decode cX8_firstOfTerm 10 = .ok (.iconst 1, 1) := dk_4 (dk_at dksX8_firstOfTerm_0 10 rfl rfl)
theorem dX8_firstOfTerm_11 : decode cX8_firstOfTerm 11 = .ok (.iload_n 2, 1) := dk_28 (dk_at dksX8_firstOfTerm_0 11 rfl rfl)
theorem dX8_firstOfTerm_12 : decode cX8_firstOfTerm 12 = .ok (.invokestatic 130, 3) := dk_184 0 130 (dk_at dksX8_firstOfTerm_0 12 rfl rfl)
theorem dX8_firstOfTerm_15 : decode cX8_firstOfTerm 15 = .ok (.ireturn, 1) := dk_172 (dk_at dksX8_firstOfTerm_0 15 rfl rfl)
theorem dX8_firstOfTerm_16 : decode cX8_firstOfTerm 16 = .ok (.iload_n 2, 1) := dk_28 (dk_at dksX8_firstOfTerm_0 16 rfl rfl)
theorem dX8_firstOfTerm_17 : decode cX8_firstOfTerm 17 = .ok (.istore_n 3, 1) := dk_62 (dk_at dksX8_firstOfTerm_0 17 rfl rfl)
theorem dX8_firstOfTerm_18 : decode cX8_firstOfTerm 18 = .ok (.iload_n 3, 1) := dk_29 (dk_at dksX8_firstOfTerm_0 18 rfl rfl)
theorem dX8_firstOfTerm_19 : decode cX8_firstOfTerm 19 = .ok (.iconst 1, 1) := dk_4 (dk_at dksX8_firstOfTerm_0 19 rfl rfl)
theorem dX8_firstOfTerm_20 : decode cX8_firstOfTerm 20 = .ok (.isub, 1) := dk_100 (dk_at dksX8_firstOfTerm_0 20 rfl rfl)
theorem dX8_firstOfTerm_21 : decode cX8_firstOfTerm 21 = .ok (.aload_n 0, 1) := dk_42 (dk_at dksX8_firstOfTerm_0 21 rfl rfl)
theorem dX8_firstOfTerm_22 : decode cX8_firstOfTerm 22 = .ok (.iload_n 1, 1) := dk_27 (dk_at dksX8_firstOfTerm_0 22 rfl rfl)
theorem dX8_firstOfTerm_23 : decode cX8_firstOfTerm 23 = .ok (.iconst 4, 1) := dk_7 (dk_at dksX8_firstOfTerm_0 23 rfl rfl)
theorem dX8_firstOfTerm_24 : decode cX8_firstOfTerm 24 = .ok (.invokevirtual 101, 3) := dk_182 0 101 (dk_at dksX8_firstOfTerm_1 0 rfl rfl)
theorem dX8_firstOfTerm_27 : decode cX8_firstOfTerm 27 = .ok (.if_icmp .le 27, 3) := dk_164 0 27 (dk_at dksX8_firstOfTerm_1 3 rfl rfl)
theorem dX8_firstOfTerm_30 : decode cX8_firstOfTerm 30 = .ok (.aload_n 0, 1) := dk_42 (dk_at dksX8_firstOfTerm_1 6 rfl rfl)
theorem dX8_firstOfTerm_31 : decode cX8_firstOfTerm 31 = .ok (.iload_n 1, 1) := dk_27 (dk_at dksX8_firstOfTerm_1 7 rfl rfl)
theorem dX8_firstOfTerm_32 : decode cX8_firstOfTerm 32 = .ok (.iload_n 3, 1) := dk_29 (dk_at dksX8_firstOfTerm_1 8 rfl rfl)
theorem dX8_firstOfTerm_33 : decode cX8_firstOfTerm 33 = .ok (.iconst 1, 1) := dk_4 (dk_at dksX8_firstOfTerm_1 9 rfl rfl)
theorem dX8_firstOfTerm_34 : decode cX8_firstOfTerm 34 = .ok (.isub, 1) := dk_100 (dk_at dksX8_firstOfTerm_1 10 rfl rfl)
theorem dX8_firstOfTerm_35 : decode cX8_firstOfTerm 35 = .ok (.invokevirtual 137, 3) := dk_182 0 137 (dk_at dksX8_firstOfTerm_1 11 rfl rfl)
theorem dX8_firstOfTerm_38 : decode cX8_firstOfTerm 38 = .ok (.aload_n 0, 1) := dk_42 (dk_at dksX8_firstOfTerm_1 14 rfl rfl)
theorem dX8_firstOfTerm_39 : decode cX8_firstOfTerm 39 = .ok (.iload_n 1, 1) := dk_27 (dk_at dksX8_firstOfTerm_1 15 rfl rfl)
theorem dX8_firstOfTerm_40 : decode cX8_firstOfTerm 40 = .ok (.iload_n 2, 1) := dk_28 (dk_at dksX8_firstOfTerm_1 16 rfl rfl)
theorem dX8_firstOfTerm_41 : decode cX8_firstOfTerm 41 = .ok (.invokevirtual 137, 3) := dk_182 0 137 (dk_at dksX8_firstOfTerm_1 17 rfl rfl)
theorem dX8_firstOfTerm_44 : decode cX8_firstOfTerm 44 = .ok (.if_icmp .ne 10, 3) := dk_160 0 10 (dk_at dksX8_firstOfTerm_1 20 rfl rfl)
theorem dX8_firstOfTerm_47 : decode cX8_firstOfTerm 47 = .ok (.iload_n 3, 1) := dk_29 (dk_at dksX8_firstOfTerm_1 23 rfl rfl)
theorem dX8_firstOfTerm_48 : decode cX8_firstOfTerm 48 = .ok (.iconst 1, 1) := dk_4 (dk_at dksX8_firstOfTerm_2 0 rfl rfl)
theorem dX8_firstOfTerm_49 : decode cX8_firstOfTerm 49 = .ok (.isub, 1) := dk_100 (dk_at dksX8_firstOfTerm_2 1 rfl rfl)
theorem dX8_firstOfTerm_50 : decode cX8_firstOfTerm 50 = .ok (.istore_n 3, 1) := dk_62 (dk_at dksX8_firstOfTerm_2 2 rfl rfl)
theorem dX8_firstOfTerm_51 : decode cX8_firstOfTerm 51 = .ok (.goto (-33), 3) := dk_167 255 223 (dk_at dksX8_firstOfTerm_2 3 rfl rfl)
theorem dX8_firstOfTerm_54 : decode cX8_firstOfTerm 54 = .ok (.iload_n 3, 1) := dk_29 (dk_at dksX8_firstOfTerm_2 6 rfl rfl)
theorem dX8_firstOfTerm_55 : decode cX8_firstOfTerm 55 = .ok (.ireturn, 1) := dk_172 (dk_at dksX8_firstOfTerm_2 7 rfl rfl)
abbrev cX8_laysAs : ByteArray := prog_18_method_86_code
def yX8_laysAs : MethodName := ⟨RX8, "laysAs", "(III)Z"⟩
def dkwX8_laysAs_4 : List UInt8 := [96, 46, 42, 180, 0, 22, 29, 5, 96, 46, 42, 180, 0, 22, 29, 6, 96, 46, 182, 1, 51, 172]
abbrev dktX8_laysAs_4 : List UInt8 := dkwX8_laysAs_4 ++ []
def dkwX8_laysAs_3 : List UInt8 := [42, 27, 16, 9, 28, 4, 100, 182, 0, 133, 42, 27, 42, 180, 0, 22, 29, 46, 42, 180, 0, 22, 29, 4]
abbrev dktX8_laysAs_3 : List UInt8 := dkwX8_laysAs_3 ++ dktX8_laysAs_4
def dkwX8_laysAs_2 : List UInt8 := [182, 0, 101, 100, 4, 100, 182, 0, 133, 28, 42, 27, 16, 9, 182, 0, 101, 163, 0, 17, 42, 182, 1, 48]
abbrev dktX8_laysAs_2 : List UInt8 := dkwX8_laysAs_2 ++ dktX8_laysAs_3
def dkwX8_laysAs_1 : List UInt8 := [182, 0, 137, 42, 180, 0, 22, 29, 46, 160, 0, 5, 4, 172, 42, 27, 16, 8, 28, 42, 27, 7]
abbrev dktX8_laysAs_1 : List UInt8 := dkwX8_laysAs_1 ++ dktX8_laysAs_2
def dkwX8_laysAs_0 : List UInt8 := [28, 42, 27, 7, 182, 0, 101, 163, 0, 5, 4, 172, 28, 42, 27, 182, 0, 108, 163, 0, 62, 42, 27, 28]
abbrev dktX8_laysAs_0 : List UInt8 := dkwX8_laysAs_0 ++ dktX8_laysAs_1
theorem dksX8_laysAs_0 : cX8_laysAs.data.toList.drop 0 = dktX8_laysAs_0 := by decide +kernel
theorem dksX8_laysAs_1 : cX8_laysAs.data.toList.drop 24 = dktX8_laysAs_1 := dk_seg dksX8_laysAs_0 24 rfl rfl
theorem dksX8_laysAs_2 : cX8_laysAs.data.toList.drop 46 = dktX8_laysAs_2 := dk_seg dksX8_laysAs_1 22 rfl rfl
theorem dksX8_laysAs_3 : cX8_laysAs.data.toList.drop 70 = dktX8_laysAs_3 := dk_seg dksX8_laysAs_2 24 rfl rfl
theorem dksX8_laysAs_4 : cX8_laysAs.data.toList.drop 94 = dktX8_laysAs_4 := dk_seg dksX8_laysAs_3 24 rfl rfl
theorem dX8_laysAs_0 : decode cX8_laysAs 0 = .ok (.iload_n 2, 1) := dk_28 (dk_at dksX8_laysAs_0 0 rfl rfl)
theorem dX8_laysAs_1 : decode cX8_laysAs 1 = .ok (.aload_n 0, 1) := dk_42 (dk_at dksX8_laysAs_0 1 rfl rfl)
theorem dX8_laysAs_2 : decode cX8_laysAs 2 = .ok (.iload_n 1, 1) := dk_27 (dk_at dksX8_laysAs_0 2 rfl rfl)
theorem dX8_laysAs_3 : decode cX8_laysAs 3 = .ok (.iconst 4, 1) := dk_7 (dk_at dksX8_laysAs_0 3 rfl rfl)
theorem dX8_laysAs_4 : decode cX8_laysAs 4 = .ok (.invokevirtual 101, 3) := dk_182 0 101 (dk_at dksX8_laysAs_0 4 rfl rfl)
theorem dX8_laysAs_7 : decode cX8_laysAs 7 = .ok (.if_icmp .gt 5, 3) := dk_163 0 5 (dk_at dksX8_laysAs_0 7 rfl rfl)
theorem dX8_laysAs_10 : decode cX8_laysAs 10 = .ok (.iconst 1, 1) := dk_4 (dk_at dksX8_laysAs_0 10 rfl rfl)
theorem dX8_laysAs_11 : decode cX8_laysAs 11 = .ok (.ireturn, 1) := dk_172 (dk_at dksX8_laysAs_0 11 rfl rfl)
theorem dX8_laysAs_12 : decode cX8_laysAs 12 = .ok (.iload_n 2, 1) := dk_28 (dk_at dksX8_laysAs_0 12 rfl rfl)
theorem dX8_laysAs_13 : decode cX8_laysAs 13 = .ok (.aload_n 0, 1) := dk_42 (dk_at dksX8_laysAs_0 13 rfl rfl)
theorem dX8_laysAs_14 : decode cX8_laysAs 14 = .ok (.iload_n 1, 1) := dk_27 (dk_at dksX8_laysAs_0 14 rfl rfl)
theorem dX8_laysAs_15 : decode cX8_laysAs 15 = .ok (.invokevirtual 108, 3) := dk_182 0 108 (dk_at dksX8_laysAs_0 15 rfl rfl)
theorem dX8_laysAs_18 : decode cX8_laysAs 18 = .ok (.if_icmp .gt 62, 3) := dk_163 0 62 (dk_at dksX8_laysAs_0 18 rfl rfl)
theorem dX8_laysAs_21 : decode cX8_laysAs 21 = .ok (.aload_n 0, 1) := dk_42 (dk_at dksX8_laysAs_0 21 rfl rfl)
theorem dX8_laysAs_22 : decode cX8_laysAs 22 = .ok (.iload_n 1, 1) := dk_27 (dk_at dksX8_laysAs_0 22 rfl rfl)
theorem dX8_laysAs_23 : decode cX8_laysAs 23 = .ok (.iload_n 2, 1) := dk_28 (dk_at dksX8_laysAs_0 23 rfl rfl)
theorem dX8_laysAs_24 : decode cX8_laysAs 24 = .ok (.invokevirtual 137, 3) := dk_182 0 137 (dk_at dksX8_laysAs_1 0 rfl rfl)
theorem dX8_laysAs_27 : decode cX8_laysAs 27 = .ok (.aload_n 0, 1) := dk_42 (dk_at dksX8_laysAs_1 3 rfl rfl)
theorem dX8_laysAs_28 : decode cX8_laysAs 28 = .ok (.getfield 22, 3) := dk_180 0 22 (dk_at dksX8_laysAs_1 4 rfl rfl)
theorem dX8_laysAs_31 : decode cX8_laysAs 31 = .ok (.iload_n 3, 1) := dk_29 (dk_at dksX8_laysAs_1 7 rfl rfl)
theorem dX8_laysAs_32 : decode cX8_laysAs 32 = .ok (.iaload, 1) := dk_46 (dk_at dksX8_laysAs_1 8 rfl rfl)
theorem dX8_laysAs_33 : decode cX8_laysAs 33 = .ok (.if_icmp .ne 5, 3) := dk_160 0 5 (dk_at dksX8_laysAs_1 9 rfl rfl)
theorem dX8_laysAs_36 : decode cX8_laysAs 36 = .ok (.iconst 1, 1) := dk_4 (dk_at dksX8_laysAs_1 12 rfl rfl)
theorem dX8_laysAs_37 : decode cX8_laysAs 37 = .ok (.ireturn, 1) := dk_172 (dk_at dksX8_laysAs_1 13 rfl rfl)
theorem dX8_laysAs_38 : decode cX8_laysAs 38 = .ok (.aload_n 0, 1) := dk_42 (dk_at dksX8_laysAs_1 14 rfl rfl)
theorem dX8_laysAs_39 : decode cX8_laysAs 39 = .ok (.iload_n 1, 1) := dk_27 (dk_at dksX8_laysAs_1 15 rfl rfl)
theorem dX8_laysAs_40 : decode cX8_laysAs 40 = .ok (.bipush 8, 2) := dk_16 8 (dk_at dksX8_laysAs_1 16 rfl rfl)
theorem dX8_laysAs_42 : decode cX8_laysAs 42 = .ok (.iload_n 2, 1) := dk_28 (dk_at dksX8_laysAs_1 18 rfl rfl)
theorem dX8_laysAs_43 : decode cX8_laysAs 43 = .ok (.aload_n 0, 1) := dk_42 (dk_at dksX8_laysAs_1 19 rfl rfl)
theorem dX8_laysAs_44 : decode cX8_laysAs 44 = .ok (.iload_n 1, 1) := dk_27 (dk_at dksX8_laysAs_1 20 rfl rfl)
theorem dX8_laysAs_45 : decode cX8_laysAs 45 = .ok (.iconst 4, 1) := dk_7 (dk_at dksX8_laysAs_1 21 rfl rfl)
theorem dX8_laysAs_46 : decode cX8_laysAs 46 = .ok (.invokevirtual 101, 3) := dk_182 0 101 (dk_at dksX8_laysAs_2 0 rfl rfl)
theorem dX8_laysAs_49 : decode cX8_laysAs 49 = .ok (.isub, 1) := dk_100 (dk_at dksX8_laysAs_2 3 rfl rfl)
theorem dX8_laysAs_50 : decode cX8_laysAs 50 = .ok (.iconst 1, 1) := dk_4 (dk_at dksX8_laysAs_2 4 rfl rfl)
theorem dX8_laysAs_51 : decode cX8_laysAs 51 = .ok (.isub, 1) := dk_100 (dk_at dksX8_laysAs_2 5 rfl rfl)
theorem dX8_laysAs_52 : decode cX8_laysAs 52 = .ok (.invokevirtual 133, 3) := dk_182 0 133 (dk_at dksX8_laysAs_2 6 rfl rfl)
theorem dX8_laysAs_55 : decode cX8_laysAs 55 = .ok (.iload_n 2, 1) := dk_28 (dk_at dksX8_laysAs_2 9 rfl rfl)
theorem dX8_laysAs_56 : decode cX8_laysAs 56 = .ok (.aload_n 0, 1) := dk_42 (dk_at dksX8_laysAs_2 10 rfl rfl)
theorem dX8_laysAs_57 : decode cX8_laysAs 57 = .ok (.iload_n 1, 1) := dk_27 (dk_at dksX8_laysAs_2 11 rfl rfl)
theorem dX8_laysAs_58 : decode cX8_laysAs 58 = .ok (.bipush 9, 2) := dk_16 9 (dk_at dksX8_laysAs_2 12 rfl rfl)
theorem dX8_laysAs_60 : decode cX8_laysAs 60 = .ok (.invokevirtual 101, 3) := dk_182 0 101 (dk_at dksX8_laysAs_2 14 rfl rfl)
theorem dX8_laysAs_63 : decode cX8_laysAs 63 = .ok (.if_icmp .gt 17, 3) := dk_163 0 17 (dk_at dksX8_laysAs_2 17 rfl rfl)
theorem dX8_laysAs_66 : decode cX8_laysAs 66 = .ok (.aload_n 0, 1) := dk_42 (dk_at dksX8_laysAs_2 20 rfl rfl)
theorem dX8_laysAs_67 : decode cX8_laysAs 67 = .ok (.invokevirtual 304, 3) := dk_182 1 48 (dk_at dksX8_laysAs_2 21 rfl rfl)
theorem dX8_laysAs_70 : decode cX8_laysAs 70 = .ok (.aload_n 0, 1) := dk_42 (dk_at dksX8_laysAs_3 0 rfl rfl)
theorem dX8_laysAs_71 : decode cX8_laysAs 71 = .ok (.iload_n 1, 1) := dk_27 (dk_at dksX8_laysAs_3 1 rfl rfl)
theorem dX8_laysAs_72 : decode cX8_laysAs 72 = .ok (.bipush 9, 2) := dk_16 9 (dk_at dksX8_laysAs_3 2 rfl rfl)
theorem dX8_laysAs_74 : decode cX8_laysAs 74 = .ok (.iload_n 2, 1) := dk_28 (dk_at dksX8_laysAs_3 4 rfl rfl)
theorem dX8_laysAs_75 : decode cX8_laysAs 75 = .ok (.iconst 1, 1) := dk_4 (dk_at dksX8_laysAs_3 5 rfl rfl)
theorem dX8_laysAs_76 : decode cX8_laysAs 76 = .ok (.isub, 1) := dk_100 (dk_at dksX8_laysAs_3 6 rfl rfl)
theorem dX8_laysAs_77 : decode cX8_laysAs 77 = .ok (.invokevirtual 133, 3) := dk_182 0 133 (dk_at dksX8_laysAs_3 7 rfl rfl)
theorem dX8_laysAs_80 : decode cX8_laysAs 80 = .ok (.aload_n 0, 1) := dk_42 (dk_at dksX8_laysAs_3 10 rfl rfl)
theorem dX8_laysAs_81 : decode cX8_laysAs 81 = .ok (.iload_n 1, 1) := dk_27 (dk_at dksX8_laysAs_3 11 rfl rfl)
theorem dX8_laysAs_82 : decode cX8_laysAs 82 = .ok (.aload_n 0, 1) := dk_42 (dk_at dksX8_laysAs_3 12 rfl rfl)
theorem dX8_laysAs_83 : decode cX8_laysAs 83 = .ok (.getfield 22, 3) := dk_180 0 22 (dk_at dksX8_laysAs_3 13 rfl rfl)
theorem dX8_laysAs_86 : decode cX8_laysAs 86 = .ok (.iload_n 3, 1) := dk_29 (dk_at dksX8_laysAs_3 16 rfl rfl)
theorem dX8_laysAs_87 : decode cX8_laysAs 87 = .ok (.iaload, 1) := dk_46 (dk_at dksX8_laysAs_3 17 rfl rfl)
theorem dX8_laysAs_88 : decode cX8_laysAs 88 = .ok (.aload_n 0, 1) := dk_42 (dk_at dksX8_laysAs_3 18 rfl rfl)
theorem dX8_laysAs_89 : decode cX8_laysAs 89 = .ok (.getfield 22, 3) := dk_180 0 22 (dk_at dksX8_laysAs_3 19 rfl rfl)
theorem dX8_laysAs_92 : decode cX8_laysAs 92 = .ok (.iload_n 3, 1) := dk_29 (dk_at dksX8_laysAs_3 22 rfl rfl)
theorem dX8_laysAs_93 : decode cX8_laysAs 93 = .ok (.iconst 1, 1) := dk_4 (dk_at dksX8_laysAs_3 23 rfl rfl)
theorem dX8_laysAs_94 : decode cX8_laysAs 94 = .ok (.iadd, 1) := dk_96 (dk_at dksX8_laysAs_4 0 rfl rfl)
theorem dX8_laysAs_95 : decode cX8_laysAs 95 = .ok (.iaload, 1) := dk_46 (dk_at dksX8_laysAs_4 1 rfl rfl)
theorem dX8_laysAs_96 : decode cX8_laysAs 96 = .ok (.aload_n 0, 1) := dk_42 (dk_at dksX8_laysAs_4 2 rfl rfl)
theorem dX8_laysAs_97 : decode cX8_laysAs 97 = .ok (.getfield 22, 3) := dk_180 0 22 (dk_at dksX8_laysAs_4 3 rfl rfl)
theorem dX8_laysAs_100 : decode cX8_laysAs 100 = .ok (.iload_n 3, 1) := dk_29 (dk_at dksX8_laysAs_4 6 rfl rfl)
theorem dX8_laysAs_101 : decode cX8_laysAs 101 = .ok (.iconst 2, 1) := dk_5 (dk_at dksX8_laysAs_4 7 rfl rfl)
theorem dX8_laysAs_102 : decode cX8_laysAs 102 = .ok (.iadd, 1) := dk_96 (dk_at dksX8_laysAs_4 8 rfl rfl)
theorem dX8_laysAs_103 : decode cX8_laysAs 103 = .ok (.iaload, 1) := dk_46 (dk_at dksX8_laysAs_4 9 rfl rfl)
theorem dX8_laysAs_104 : decode cX8_laysAs 104 = .ok (.aload_n 0, 1) := dk_42 (dk_at dksX8_laysAs_4 10 rfl rfl)
theorem dX8_laysAs_105 : decode cX8_laysAs 105 = .ok (.getfield 22, 3) := dk_180 0 22 (dk_at dksX8_laysAs_4 11 rfl rfl)
theorem dX8_laysAs_108 : decode cX8_laysAs 108 = .ok (.iload_n 3, 1) := dk_29 (dk_at dksX8_laysAs_4 14 rfl rfl)
theorem dX8_laysAs_109 : decode cX8_laysAs 109 = .ok (.iconst 3, 1) := dk_6 (dk_at dksX8_laysAs_4 15 rfl rfl)
theorem dX8_laysAs_110 : decode cX8_laysAs 110 = .ok (.iadd, 1) := dk_96 (dk_at dksX8_laysAs_4 16 rfl rfl)
theorem dX8_laysAs_111 : decode cX8_laysAs 111 = .ok (.iaload, 1) := dk_46 (dk_at dksX8_laysAs_4 17 rfl rfl)
theorem dX8_laysAs_112 : decode cX8_laysAs 112 = .ok (.invokevirtual 307, 3) := dk_182 1 51 (dk_at dksX8_laysAs_4 18 rfl rfl)
theorem dX8_laysAs_115 : decode cX8_laysAs 115 = .ok (.ireturn, 1) := dk_172 (dk_at dksX8_laysAs_4 21 rfl rfl)
abbrev cX8_hearsOfEntries : ByteArray := prog_18_method_89_code
def yX8_hearsOfEntries : MethodName := ⟨RX8, "hearsOfEntries", "(I)V"⟩
def dkwX8_hearsOfEntries_3 : List UInt8 := [16, 7, 46, 184, 0, 115, 184, 0, 130, 182, 0, 133, 42, 27, 28, 182, 1, 33, 42, 27, 182, 1, 131, 177]
abbrev dktX8_hearsOfEntries_3 : List UInt8 := dkwX8_hearsOfEntries_3 ++ []
def dkwX8_hearsOfEntries_2 : List UInt8 := [42, 27, 16, 38, 28, 96, 182, 0, 101, 4, 96, 42, 27, 16, 31, 28, 96, 182, 0, 101, 42, 180, 0, 22]
abbrev dktX8_hearsOfEntries_2 : List UInt8 := dkwX8_hearsOfEntries_2 ++ dktX8_hearsOfEntries_3
def dkwX8_hearsOfEntries_1 : List UInt8 := [160, 0, 18, 42, 27, 42, 180, 0, 22, 16, 7, 46, 182, 1, 128, 167, 0, 51, 42, 27, 16, 31, 28, 96]
abbrev dktX8_hearsOfEntries_1 : List UInt8 := dkwX8_hearsOfEntries_1 ++ dktX8_hearsOfEntries_2
def dkwX8_hearsOfEntries_0 : List UInt8 := [42, 27, 182, 1, 125, 154, 0, 4, 177, 42, 180, 0, 22, 3, 46, 61, 42, 180, 0, 22, 16, 6, 46, 4]
abbrev dktX8_hearsOfEntries_0 : List UInt8 := dkwX8_hearsOfEntries_0 ++ dktX8_hearsOfEntries_1
theorem dksX8_hearsOfEntries_0 : cX8_hearsOfEntries.data.toList.drop 0 = dktX8_hearsOfEntries_0 := by decide +kernel
theorem dksX8_hearsOfEntries_1 : cX8_hearsOfEntries.data.toList.drop 24 = dktX8_hearsOfEntries_1 := dk_seg dksX8_hearsOfEntries_0 24 rfl rfl
theorem dksX8_hearsOfEntries_2 : cX8_hearsOfEntries.data.toList.drop 48 = dktX8_hearsOfEntries_2 := dk_seg dksX8_hearsOfEntries_1 24 rfl rfl
theorem dksX8_hearsOfEntries_3 : cX8_hearsOfEntries.data.toList.drop 72 = dktX8_hearsOfEntries_3 := dk_seg dksX8_hearsOfEntries_2 24 rfl rfl
theorem dX8_hearsOfEntries_0 : decode cX8_hearsOfEntries 0 = .ok (.aload_n 0, 1) := dk_42 (dk_at dksX8_hearsOfEntries_0 0 rfl rfl)
theorem dX8_hearsOfEntries_1 : decode cX8_hearsOfEntries 1 = .ok (.iload_n 1, 1) := dk_27 (dk_at dksX8_hearsOfEntries_0 1 rfl rfl)
theorem dX8_hearsOfEntries_2 : decode cX8_hearsOfEntries 2 = .ok (.invokevirtual 381, 3) := dk_182 1 125 (dk_at dksX8_hearsOfEntries_0 2 rfl rfl)
theorem dX8_hearsOfEntries_5 : decode cX8_hearsOfEntries 5 = .ok (.ifCond .ne 4, 3) := dk_154 0 4 (dk_at dksX8_hearsOfEntries_0 5 rfl rfl)
theorem dX8_hearsOfEntries_8 : decode cX8_hearsOfEntries 8 = .ok (.return_, 1) := dk_177 (dk_at dksX8_hearsOfEntries_0 8 rfl rfl)
theorem dX8_hearsOfEntries_9 : decode cX8_hearsOfEntries 9 = .ok (.aload_n 0, 1) := dk_42 (dk_at dksX8_hearsOfEntries_0 9 rfl rfl)
theorem dX8_hearsOfEntries_10 : decode cX8_hearsOfEntries 10 = .ok (.getfield 22, 3) := dk_180 0 22 (dk_at dksX8_hearsOfEntries_0 10 rfl rfl)
theorem dX8_hearsOfEntries_13 : decode cX8_hearsOfEntries 13 = .ok (.iconst 0, 1) := dk_3 (dk_at dksX8_hearsOfEntries_0 13 rfl rfl)
theorem dX8_hearsOfEntries_14 : decode cX8_hearsOfEntries 14 = .ok (.iaload, 1) := dk_46 (dk_at dksX8_hearsOfEntries_0 14 rfl rfl)
theorem dX8_hearsOfEntries_15 : decode cX8_hearsOfEntries 15 = .ok (.istore_n 2, 1) := dk_61 (dk_at dksX8_hearsOfEntries_0 15 rfl rfl)
theorem dX8_hearsOfEntries_16 : decode cX8_hearsOfEntries 16 = .ok (.aload_n 0, 1) := dk_42 (dk_at dksX8_hearsOfEntries_0 16 rfl rfl)
theorem dX8_hearsOfEntries_17 : decode cX8_hearsOfEntries 17 = .ok (.getfield 22, 3) := dk_180 0 22 (dk_at dksX8_hearsOfEntries_0 17 rfl rfl)
theorem dX8_hearsOfEntries_20 : decode cX8_hearsOfEntries 20 = .ok (.bipush 6, 2) := dk_16 6 (dk_at dksX8_hearsOfEntries_0 20 rfl rfl)
theorem dX8_hearsOfEntries_22 : decode cX8_hearsOfEntries 22 = .ok (.iaload, 1) := dk_46 (dk_at dksX8_hearsOfEntries_0 22 rfl rfl)
theorem dX8_hearsOfEntries_23 : decode cX8_hearsOfEntries 23 = .ok (.iconst 1, 1) := dk_4 (dk_at dksX8_hearsOfEntries_0 23 rfl rfl)
theorem dX8_hearsOfEntries_24 : decode cX8_hearsOfEntries 24 = .ok (.if_icmp .ne 18, 3) := dk_160 0 18 (dk_at dksX8_hearsOfEntries_1 0 rfl rfl)
theorem dX8_hearsOfEntries_27 : decode cX8_hearsOfEntries 27 = .ok (.aload_n 0, 1) := dk_42 (dk_at dksX8_hearsOfEntries_1 3 rfl rfl)
theorem dX8_hearsOfEntries_28 : decode cX8_hearsOfEntries 28 = .ok (.iload_n 1, 1) := dk_27 (dk_at dksX8_hearsOfEntries_1 4 rfl rfl)
theorem dX8_hearsOfEntries_29 : decode cX8_hearsOfEntries 29 = .ok (.aload_n 0, 1) := dk_42 (dk_at dksX8_hearsOfEntries_1 5 rfl rfl)
theorem dX8_hearsOfEntries_30 : decode cX8_hearsOfEntries 30 = .ok (.getfield 22, 3) := dk_180 0 22 (dk_at dksX8_hearsOfEntries_1 6 rfl rfl)
theorem dX8_hearsOfEntries_33 : decode cX8_hearsOfEntries 33 = .ok (.bipush 7, 2) := dk_16 7 (dk_at dksX8_hearsOfEntries_1 9 rfl rfl)
theorem dX8_hearsOfEntries_35 : decode cX8_hearsOfEntries 35 = .ok (.iaload, 1) := dk_46 (dk_at dksX8_hearsOfEntries_1 11 rfl rfl)
theorem dX8_hearsOfEntries_36 : decode cX8_hearsOfEntries 36 = .ok (.invokevirtual 384, 3) := dk_182 1 128 (dk_at dksX8_hearsOfEntries_1 12 rfl rfl)
theorem dX8_hearsOfEntries_39 : decode cX8_hearsOfEntries 39 = .ok (.goto 51, 3) := dk_167 0 51 (dk_at dksX8_hearsOfEntries_1 15 rfl rfl)
theorem dX8_hearsOfEntries_42 : decode cX8_hearsOfEntries 42 = .ok (.aload_n 0, 1) := dk_42 (dk_at dksX8_hearsOfEntries_1 18 rfl rfl)
theorem dX8_hearsOfEntries_43 : decode cX8_hearsOfEntries 43 = .ok (.iload_n 1, 1) := dk_27 (dk_at dksX8_hearsOfEntries_1 19 rfl rfl)
theorem dX8_hearsOfEntries_44 : decode cX8_hearsOfEntries 44 = .ok (.bipush 31, 2) := dk_16 31 (dk_at dksX8_hearsOfEntries_1 20 rfl rfl)
theorem dX8_hearsOfEntries_46 : decode cX8_hearsOfEntries 46 = .ok (.iload_n 2, 1) := dk_28 (dk_at dksX8_hearsOfEntries_1 22 rfl rfl)
theorem dX8_hearsOfEntries_47 : decode cX8_hearsOfEntries 47 = .ok (.iadd, 1) := dk_96 (dk_at dksX8_hearsOfEntries_1 23 rfl rfl)
theorem dX8_hearsOfEntries_48 : decode cX8_hearsOfEntries 48 = .ok (.aload_n 0, 1) := dk_42 (dk_at dksX8_hearsOfEntries_2 0 rfl rfl)
theorem dX8_hearsOfEntries_49 : decode cX8_hearsOfEntries 49 = .ok (.iload_n 1, 1) := dk_27 (dk_at dksX8_hearsOfEntries_2 1 rfl rfl)
theorem dX8_hearsOfEntries_50 : decode cX8_hearsOfEntries 50 = .ok (.bipush 38, 2) := dk_16 38 (dk_at dksX8_hearsOfEntries_2 2 rfl rfl)
theorem dX8_hearsOfEntries_52 : decode cX8_hearsOfEntries 52 = .ok (.iload_n 2, 1) := dk_28 (dk_at dksX8_hearsOfEntries_2 4 rfl rfl)
theorem dX8_hearsOfEntries_53 : decode cX8_hearsOfEntries 53 = .ok (.iadd, 1) := dk_96 (dk_at dksX8_hearsOfEntries_2 5 rfl rfl)
theorem dX8_hearsOfEntries_54 : decode cX8_hearsOfEntries 54 = .ok (.invokevirtual 101, 3) := dk_182 0 101 (dk_at dksX8_hearsOfEntries_2 6 rfl rfl)
theorem dX8_hearsOfEntries_57 : decode cX8_hearsOfEntries 57 = .ok (.iconst 1, 1) := dk_4 (dk_at dksX8_hearsOfEntries_2 9 rfl rfl)
theorem dX8_hearsOfEntries_58 : decode cX8_hearsOfEntries 58 = .ok (.iadd, 1) := dk_96 (dk_at dksX8_hearsOfEntries_2 10 rfl rfl)
theorem dX8_hearsOfEntries_59 : decode cX8_hearsOfEntries 59 = .ok (.aload_n 0, 1) := dk_42 (dk_at dksX8_hearsOfEntries_2 11 rfl rfl)
theorem dX8_hearsOfEntries_60 : decode cX8_hearsOfEntries 60 = .ok (.iload_n 1, 1) := dk_27 (dk_at dksX8_hearsOfEntries_2 12 rfl rfl)
theorem dX8_hearsOfEntries_61 : decode cX8_hearsOfEntries 61 = .ok (.bipush 31, 2) := dk_16 31 (dk_at dksX8_hearsOfEntries_2 13 rfl rfl)
theorem dX8_hearsOfEntries_63 : decode cX8_hearsOfEntries 63 = .ok (.iload_n 2, 1) := dk_28 (dk_at dksX8_hearsOfEntries_2 15 rfl rfl)
theorem dX8_hearsOfEntries_64 : decode cX8_hearsOfEntries 64 = .ok (.iadd, 1) := dk_96 (dk_at dksX8_hearsOfEntries_2 16 rfl rfl)
theorem dX8_hearsOfEntries_65 : decode cX8_hearsOfEntries 65 = .ok (.invokevirtual 101, 3) := dk_182 0 101 (dk_at dksX8_hearsOfEntries_2 17 rfl rfl)
theorem dX8_hearsOfEntries_68 : decode cX8_hearsOfEntries 68 = .ok (.aload_n 0, 1) := dk_42 (dk_at dksX8_hearsOfEntries_2 20 rfl rfl)
theorem dX8_hearsOfEntries_69 : decode cX8_hearsOfEntries 69 = .ok (.getfield 22, 3) := dk_180 0 22 (dk_at dksX8_hearsOfEntries_2 21 rfl rfl)
theorem dX8_hearsOfEntries_72 : decode cX8_hearsOfEntries 72 = .ok (.bipush 7, 2) := dk_16 7 (dk_at dksX8_hearsOfEntries_3 0 rfl rfl)
theorem dX8_hearsOfEntries_74 : decode cX8_hearsOfEntries 74 = .ok (.iaload, 1) := dk_46 (dk_at dksX8_hearsOfEntries_3 2 rfl rfl)
theorem dX8_hearsOfEntries_75 : decode cX8_hearsOfEntries 75 = .ok (.invokestatic 115, 3) := dk_184 0 115 (dk_at dksX8_hearsOfEntries_3 3 rfl rfl)
theorem dX8_hearsOfEntries_78 : decode cX8_hearsOfEntries 78 = .ok (.invokestatic 130, 3) := dk_184 0 130 (dk_at dksX8_hearsOfEntries_3 6 rfl rfl)
theorem dX8_hearsOfEntries_81 : decode cX8_hearsOfEntries 81 = .ok (.invokevirtual 133, 3) := dk_182 0 133 (dk_at dksX8_hearsOfEntries_3 9 rfl rfl)
theorem dX8_hearsOfEntries_84 : decode cX8_hearsOfEntries 84 = .ok (.aload_n 0, 1) := dk_42 (dk_at dksX8_hearsOfEntries_3 12 rfl rfl)
theorem dX8_hearsOfEntries_85 : decode cX8_hearsOfEntries 85 = .ok (.iload_n 1, 1) := dk_27 (dk_at dksX8_hearsOfEntries_3 13 rfl rfl)
theorem dX8_hearsOfEntries_86 : decode cX8_hearsOfEntries 86 = .ok (.iload_n 2, 1) := dk_28 (dk_at dksX8_hearsOfEntries_3 14 rfl rfl)
theorem dX8_hearsOfEntries_87 : decode cX8_hearsOfEntries 87 = .ok (.invokevirtual 289, 3) := dk_182 1 33 (dk_at dksX8_hearsOfEntries_3 15 rfl rfl)
theorem dX8_hearsOfEntries_90 : decode cX8_hearsOfEntries 90 = .ok (.aload_n 0, 1) := dk_42 (dk_at dksX8_hearsOfEntries_3 18 rfl rfl)
theorem dX8_hearsOfEntries_91 : decode cX8_hearsOfEntries 91 = .ok (.iload_n 1, 1) := dk_27 (dk_at dksX8_hearsOfEntries_3 19 rfl rfl)
theorem dX8_hearsOfEntries_92 : decode cX8_hearsOfEntries 92 = .ok (.invokevirtual 387, 3) := dk_182 1 131 (dk_at dksX8_hearsOfEntries_3 20 rfl rfl)
theorem dX8_hearsOfEntries_95 : decode cX8_hearsOfEntries 95 = .ok (.return_, 1) := dk_177 (dk_at dksX8_hearsOfEntries_3 23 rfl rfl)
abbrev cX8_isOfLeader : ByteArray := prog_18_method_87_code
def yX8_isOfLeader : MethodName := ⟨RX8, "isOfLeader", "(I)Z"⟩
def dkwX8_isOfLeader_2 : List UInt8 := [182, 0, 101, 42, 180, 0, 22, 16, 10, 46, 184, 0, 130, 182, 0, 133, 4, 172]
abbrev dktX8_isOfLeader_2 : List UInt8 := dkwX8_isOfLeader_2 ++ []
def dkwX8_isOfLeader_1 : List UInt8 := [159, 0, 5, 3, 172, 42, 180, 0, 22, 3, 46, 61, 42, 27, 16, 45, 28, 96, 42, 27, 16, 45, 28, 96]
abbrev dktX8_isOfLeader_1 : List UInt8 := dkwX8_isOfLeader_1 ++ dktX8_isOfLeader_2
def dkwX8_isOfLeader_0 : List UInt8 := [42, 27, 6, 182, 0, 101, 5, 160, 0, 18, 42, 180, 0, 22, 6, 46, 42, 27, 4, 182, 0, 101]
abbrev dktX8_isOfLeader_0 : List UInt8 := dkwX8_isOfLeader_0 ++ dktX8_isOfLeader_1
theorem dksX8_isOfLeader_0 : cX8_isOfLeader.data.toList.drop 0 = dktX8_isOfLeader_0 := by decide +kernel
theorem dksX8_isOfLeader_1 : cX8_isOfLeader.data.toList.drop 22 = dktX8_isOfLeader_1 := dk_seg dksX8_isOfLeader_0 22 rfl rfl
theorem dksX8_isOfLeader_2 : cX8_isOfLeader.data.toList.drop 46 = dktX8_isOfLeader_2 := dk_seg dksX8_isOfLeader_1 24 rfl rfl
theorem dX8_isOfLeader_0 : decode cX8_isOfLeader 0 = .ok (.aload_n 0, 1) := dk_42 (dk_at dksX8_isOfLeader_0 0 rfl rfl)
theorem dX8_isOfLeader_1 : decode cX8_isOfLeader 1 = .ok (.iload_n 1, 1) := dk_27 (dk_at dksX8_isOfLeader_0 1 rfl rfl)
theorem dX8_isOfLeader_2 : decode cX8_isOfLeader 2 = .ok (.iconst 3, 1) := dk_6 (dk_at dksX8_isOfLeader_0 2 rfl rfl)
theorem dX8_isOfLeader_3 : decode cX8_isOfLeader 3 = .ok (.invokevirtual 101, 3) := dk_182 0 101 (dk_at dksX8_isOfLeader_0 3 rfl rfl)
theorem dX8_isOfLeader_6 : decode cX8_isOfLeader 6 = .ok (.iconst 2, 1) := dk_5 (dk_at dksX8_isOfLeader_0 6 rfl rfl)
theorem dX8_isOfLeader_7 : decode cX8_isOfLeader 7 = .ok (.if_icmp .ne 18, 3) := dk_160 0 18 (dk_at dksX8_isOfLeader_0 7 rfl rfl)
theorem dX8_isOfLeader_10 : decode cX8_isOfLeader 10 = .ok (.aload_n 0, 1) := dk_42 (dk_at dksX8_isOfLeader_0 10 rfl rfl)
theorem dX8_isOfLeader_11 : decode cX8_isOfLeader 11 = .ok (.getfield 22, 3) := dk_180 0 22 (dk_at dksX8_isOfLeader_0 11 rfl rfl)
theorem dX8_isOfLeader_14 : decode cX8_isOfLeader 14 = .ok (.iconst 3, 1) := dk_6 (dk_at dksX8_isOfLeader_0 14 rfl rfl)
theorem dX8_isOfLeader_15 : decode cX8_isOfLeader 15 = .ok (.iaload, 1) := dk_46 (dk_at dksX8_isOfLeader_0 15 rfl rfl)
theorem dX8_isOfLeader_16 : decode cX8_isOfLeader 16 = .ok (.aload_n 0, 1) := dk_42 (dk_at dksX8_isOfLeader_0 16 rfl rfl)
theorem dX8_isOfLeader_17 : decode cX8_isOfLeader 17 = .ok (.iload_n 1, 1) := dk_27 (dk_at dksX8_isOfLeader_0 17 rfl rfl)
theorem dX8_isOfLeader_18 : decode cX8_isOfLeader 18 = .ok (.iconst 1, 1) := dk_4 (dk_at dksX8_isOfLeader_0 18 rfl rfl)
theorem dX8_isOfLeader_19 : decode cX8_isOfLeader 19 = .ok (.invokevirtual 101, 3) := dk_182 0 101 (dk_at dksX8_isOfLeader_0 19 rfl rfl)
theorem dX8_isOfLeader_22 : decode cX8_isOfLeader 22 = .ok (.if_icmp .eq 5, 3) := dk_159 0 5 (dk_at dksX8_isOfLeader_1 0 rfl rfl)
theorem dX8_isOfLeader_25 : decode cX8_isOfLeader 25 = .ok (.iconst 0, 1) := dk_3 (dk_at dksX8_isOfLeader_1 3 rfl rfl)
theorem dX8_isOfLeader_26 : decode cX8_isOfLeader 26 = .ok (.ireturn, 1) := dk_172 (dk_at dksX8_isOfLeader_1 4 rfl rfl)
theorem dX8_isOfLeader_27 : decode cX8_isOfLeader 27 = .ok (.aload_n 0, 1) := dk_42 (dk_at dksX8_isOfLeader_1 5 rfl rfl)
theorem dX8_isOfLeader_28 : decode cX8_isOfLeader 28 = .ok (.getfield 22, 3) := dk_180 0 22 (dk_at dksX8_isOfLeader_1 6 rfl rfl)
theorem dX8_isOfLeader_31 : decode cX8_isOfLeader 31 = .ok (.iconst 0, 1) := dk_3 (dk_at dksX8_isOfLeader_1 9 rfl rfl)
theorem dX8_isOfLeader_32 : decode cX8_isOfLeader 32 = .ok (.iaload, 1) := dk_46 (dk_at dksX8_isOfLeader_1 10 rfl rfl)
theorem dX8_isOfLeader_33 : decode cX8_isOfLeader 33 = .ok (.istore_n 2, 1) := dk_61 (dk_at dksX8_isOfLeader_1 11 rfl rfl)
theorem dX8_isOfLeader_34 : decode cX8_isOfLeader 34 = .ok (.aload_n 0, 1) := dk_42 (dk_at dksX8_isOfLeader_1 12 rfl rfl)
theorem dX8_isOfLeader_35 : decode cX8_isOfLeader 35 = .ok (.iload_n 1, 1) := dk_27 (dk_at dksX8_isOfLeader_1 13 rfl rfl)
theorem dX8_isOfLeader_36 : decode cX8_isOfLeader 36 = .ok (.bipush 45, 2) := dk_16 45 (dk_at dksX8_isOfLeader_1 14 rfl rfl)
theorem dX8_isOfLeader_38 : decode cX8_isOfLeader 38 = .ok (.iload_n 2, 1) := dk_28 (dk_at dksX8_isOfLeader_1 16 rfl rfl)
theorem dX8_isOfLeader_39 : decode cX8_isOfLeader 39 = .ok (.iadd, 1) := dk_96 (dk_at dksX8_isOfLeader_1 17 rfl rfl)
theorem dX8_isOfLeader_40 : decode cX8_isOfLeader 40 = .ok (.aload_n 0, 1) := dk_42 (dk_at dksX8_isOfLeader_1 18 rfl rfl)
theorem dX8_isOfLeader_41 : decode cX8_isOfLeader 41 = .ok (.iload_n 1, 1) := dk_27 (dk_at dksX8_isOfLeader_1 19 rfl rfl)
theorem dX8_isOfLeader_42 : decode cX8_isOfLeader 42 = .ok (.bipush 45, 2) := dk_16 45 (dk_at dksX8_isOfLeader_1 20 rfl rfl)
theorem dX8_isOfLeader_44 : decode cX8_isOfLeader 44 = .ok (.iload_n 2, 1) := dk_28 (dk_at dksX8_isOfLeader_1 22 rfl rfl)
theorem dX8_isOfLeader_45 : decode cX8_isOfLeader 45 = .ok (.iadd, 1) := dk_96 (dk_at dksX8_isOfLeader_1 23 rfl rfl)
theorem dX8_isOfLeader_46 : decode cX8_isOfLeader 46 = .ok (.invokevirtual 101, 3) := dk_182 0 101 (dk_at dksX8_isOfLeader_2 0 rfl rfl)
theorem dX8_isOfLeader_49 : decode cX8_isOfLeader 49 = .ok (.aload_n 0, 1) := dk_42 (dk_at dksX8_isOfLeader_2 3 rfl rfl)
theorem dX8_isOfLeader_50 : decode cX8_isOfLeader 50 = .ok (.getfield 22, 3) := dk_180 0 22 (dk_at dksX8_isOfLeader_2 4 rfl rfl)
theorem dX8_isOfLeader_53 : decode cX8_isOfLeader 53 = .ok (.bipush 10, 2) := dk_16 10 (dk_at dksX8_isOfLeader_2 7 rfl rfl)
theorem dX8_isOfLeader_55 : decode cX8_isOfLeader 55 = .ok (.iaload, 1) := dk_46 (dk_at dksX8_isOfLeader_2 9 rfl rfl)
theorem dX8_isOfLeader_56 : decode cX8_isOfLeader 56 = .ok (.invokestatic 130, 3) := dk_184 0 130 (dk_at dksX8_isOfLeader_2 10 rfl rfl)
theorem dX8_isOfLeader_59 : decode cX8_isOfLeader 59 = .ok (.invokevirtual 133, 3) := dk_182 0 133 (dk_at dksX8_isOfLeader_2 13 rfl rfl)
theorem dX8_isOfLeader_62 : decode cX8_isOfLeader 62 = .ok (.iconst 1, 1) := dk_4 (dk_at dksX8_isOfLeader_2 16 rfl rfl)
theorem dX8_isOfLeader_63 : decode cX8_isOfLeader 63 = .ok (.ireturn, 1) := dk_172 (dk_at dksX8_isOfLeader_2 17 rfl rfl)
abbrev cX8_matches : ByteArray := prog_18_method_88_code
def yX8_matches : MethodName := ⟨RX8, "matches", "(II)V"⟩
def dkwX8_matches_3 : List UInt8 := [182, 0, 101, 42, 27, 182, 0, 108, 163, 0, 9, 42, 27, 29, 182, 1, 33, 177]
abbrev dktX8_matches_3 : List UInt8 := dkwX8_matches_3 ++ []
def dkwX8_matches_2 : List UInt8 := [182, 0, 133, 42, 27, 182, 1, 61, 42, 27, 6, 182, 0, 101, 5, 160, 0, 26, 42, 27, 16, 31, 29, 96]
abbrev dktX8_matches_2 : List UInt8 := dkwX8_matches_2 ++ dktX8_matches_3
def dkwX8_matches_1 : List UInt8 := [184, 0, 130, 182, 0, 133, 42, 27, 16, 31, 29, 96, 42, 27, 16, 38, 29, 96, 182, 0, 101, 4, 96]
abbrev dktX8_matches_1 : List UInt8 := dkwX8_matches_1 ++ dktX8_matches_2
def dkwX8_matches_0 : List UInt8 := [42, 180, 0, 22, 3, 46, 62, 42, 27, 16, 38, 29, 96, 42, 27, 16, 38, 29, 96, 182, 0, 101, 28]
abbrev dktX8_matches_0 : List UInt8 := dkwX8_matches_0 ++ dktX8_matches_1
theorem dksX8_matches_0 : cX8_matches.data.toList.drop 0 = dktX8_matches_0 := by decide +kernel
theorem dksX8_matches_1 : cX8_matches.data.toList.drop 23 = dktX8_matches_1 := dk_seg dksX8_matches_0 23 rfl rfl
theorem dksX8_matches_2 : cX8_matches.data.toList.drop 46 = dktX8_matches_2 := dk_seg dksX8_matches_1 23 rfl rfl
theorem dksX8_matches_3 : cX8_matches.data.toList.drop 70 = dktX8_matches_3 := dk_seg dksX8_matches_2 24 rfl rfl
theorem dX8_matches_0 : decode cX8_matches 0 = .ok (.aload_n 0, 1) := dk_42 (dk_at dksX8_matches_0 0 rfl rfl)
theorem dX8_matches_1 : decode cX8_matches 1 = .ok (.getfield 22, 3) := dk_180 0 22 (dk_at dksX8_matches_0 1 rfl rfl)
theorem dX8_matches_4 : decode cX8_matches 4 = .ok (.iconst 0, 1) := dk_3 (dk_at dksX8_matches_0 4 rfl rfl)
theorem dX8_matches_5 : decode cX8_matches 5 = .ok (.iaload, 1) := dk_46 (dk_at dksX8_matches_0 5 rfl rfl)
theorem dX8_matches_6 : decode cX8_matches 6 = .ok (.istore_n 3, 1) := dk_62 (dk_at dksX8_matches_0 6 rfl rfl)
theorem dX8_matches_7 : decode cX8_matches 7 = .ok (.aload_n 0, 1) := dk_42 (dk_at dksX8_matches_0 7 rfl rfl)
theorem dX8_matches_8 : decode cX8_matches 8 = .ok (.iload_n 1, 1) := dk_27 (dk_at dksX8_matches_0 8 rfl rfl)
theorem dX8_matches_9 : decode cX8_matches 9 = .ok (.bipush 38, 2) := dk_16 38 (dk_at dksX8_matches_0 9 rfl rfl)
theorem dX8_matches_11 : decode cX8_matches 11 = .ok (.iload_n 3, 1) := dk_29 (dk_at dksX8_matches_0 11 rfl rfl)
theorem dX8_matches_12 : decode cX8_matches 12 = .ok (.iadd, 1) := dk_96 (dk_at dksX8_matches_0 12 rfl rfl)
theorem dX8_matches_13 : decode cX8_matches 13 = .ok (.aload_n 0, 1) := dk_42 (dk_at dksX8_matches_0 13 rfl rfl)
theorem dX8_matches_14 : decode cX8_matches 14 = .ok (.iload_n 1, 1) := dk_27 (dk_at dksX8_matches_0 14 rfl rfl)
theorem dX8_matches_15 : decode cX8_matches 15 = .ok (.bipush 38, 2) := dk_16 38 (dk_at dksX8_matches_0 15 rfl rfl)
theorem dX8_matches_17 : decode cX8_matches 17 = .ok (.iload_n 3, 1) := dk_29 (dk_at dksX8_matches_0 17 rfl rfl)
theorem dX8_matches_18 : decode cX8_matches 18 = .ok (.iadd, 1) := dk_96 (dk_at dksX8_matches_0 18 rfl rfl)
theorem dX8_matches_19 : decode cX8_matches 19 = .ok (.invokevirtual 101, 3) := dk_182 0 101 (dk_at dksX8_matches_0 19 rfl rfl)
theorem dX8_matches_22 : decode cX8_matches 22 = .ok (.iload_n 2, 1) := dk_28 (dk_at dksX8_matches_0 22 rfl rfl)
theorem dX8_matches_23 : decode cX8_matches 23 = .ok (.invokestatic 130, 3) := dk_184 0 130 (dk_at dksX8_matches_1 0 rfl rfl)
theorem dX8_matches_26 : decode cX8_matches 26 = .ok (.invokevirtual 133, 3) := dk_182 0 133 (dk_at dksX8_matches_1 3 rfl rfl)
theorem dX8_matches_29 : decode cX8_matches 29 = .ok (.aload_n 0, 1) := dk_42 (dk_at dksX8_matches_1 6 rfl rfl)
theorem dX8_matches_30 : decode cX8_matches 30 = .ok (.iload_n 1, 1) := dk_27 (dk_at dksX8_matches_1 7 rfl rfl)
theorem dX8_matches_31 : decode cX8_matches 31 = .ok (.bipush 31, 2) := dk_16 31 (dk_at dksX8_matches_1 8 rfl rfl)
theorem dX8_matches_33 : decode cX8_matches 33 = .ok (.iload_n 3, 1) := dk_29 (dk_at dksX8_matches_1 10 rfl rfl)
theorem dX8_matches_34 : decode cX8_matches 34 = .ok (.iadd, 1) := dk_96 (dk_at dksX8_matches_1 11 rfl rfl)
theorem dX8_matches_35 : decode cX8_matches 35 = .ok (.aload_n 0, 1) := dk_42 (dk_at dksX8_matches_1 12 rfl rfl)
theorem dX8_matches_36 : decode cX8_matches 36 = .ok (.iload_n 1, 1) := dk_27 (dk_at dksX8_matches_1 13 rfl rfl)
theorem dX8_matches_37 : decode cX8_matches 37 = .ok (.bipush 38, 2) := dk_16 38 (dk_at dksX8_matches_1 14 rfl rfl)
theorem dX8_matches_39 : decode cX8_matches 39 = .ok (.iload_n 3, 1) := dk_29 (dk_at dksX8_matches_1 16 rfl rfl)
theorem dX8_matches_40 : decode cX8_matches 40 = .ok (.iadd, 1) := dk_96 (dk_at dksX8_matches_1 17 rfl rfl)
theorem dX8_matches_41 : decode cX8_matches 41 = .ok (.invokevirtual 101, 3) := dk_182 0 101 (dk_at dksX8_matches_1 18 rfl rfl)
theorem dX8_matches_44 : decode cX8_matches 44 = .ok (.iconst 1, 1) := dk_4 (dk_at dksX8_matches_1 21 rfl rfl)
theorem dX8_matches_45 : decode cX8_matches 45 = .ok (.iadd, 1) := dk_96 (dk_at dksX8_matches_1 22 rfl rfl)
theorem dX8_matches_46 : decode cX8_matches 46 = .ok (.invokevirtual 133, 3) := dk_182 0 133 (dk_at dksX8_matches_2 0 rfl rfl)
theorem dX8_matches_49 : decode cX8_matches 49 = .ok (.aload_n 0, 1) := dk_42 (dk_at dksX8_matches_2 3 rfl rfl)
theorem dX8_matches_50 : decode cX8_matches 50 = .ok (.iload_n 1, 1) := dk_27 (dk_at dksX8_matches_2 4 rfl rfl)
theorem dX8_matches_51 : decode cX8_matches 51 = .ok (.invokevirtual 317, 3) := dk_182 1 61 (dk_at dksX8_matches_2 5 rfl rfl)
theorem dX8_matches_54 : decode cX8_matches 54 = .ok (.aload_n 0, 1) := dk_42 (dk_at dksX8_matches_2 8 rfl rfl)
theorem dX8_matches_55 : decode cX8_matches 55 = .ok (.iload_n 1, 1) := dk_27 (dk_at dksX8_matches_2 9 rfl rfl)
theorem dX8_matches_56 : decode cX8_matches 56 = .ok (.iconst 3, 1) := dk_6 (dk_at dksX8_matches_2 10 rfl rfl)
theorem dX8_matches_57 : decode cX8_matches 57 = .ok (.invokevirtual 101, 3) := dk_182 0 101 (dk_at dksX8_matches_2 11 rfl rfl)
theorem dX8_matches_60 : decode cX8_matches 60 = .ok (.iconst 2, 1) := dk_5 (dk_at dksX8_matches_2 14 rfl rfl)
theorem dX8_matches_61 : decode cX8_matches 61 = .ok (.if_icmp .ne 26, 3) := dk_160 0 26 (dk_at dksX8_matches_2 15 rfl rfl)
theorem dX8_matches_64 : decode cX8_matches 64 = .ok (.aload_n 0, 1) := dk_42 (dk_at dksX8_matches_2 18 rfl rfl)
theorem dX8_matches_65 : decode cX8_matches 65 = .ok (.iload_n 1, 1) := dk_27 (dk_at dksX8_matches_2 19 rfl rfl)
theorem dX8_matches_66 : decode cX8_matches 66 = .ok (.bipush 31, 2) := dk_16 31 (dk_at dksX8_matches_2 20 rfl rfl)
theorem dX8_matches_68 : decode cX8_matches 68 = .ok (.iload_n 3, 1) := dk_29 (dk_at dksX8_matches_2 22 rfl rfl)
theorem dX8_matches_69 : decode cX8_matches 69 = .ok (.iadd, 1) := dk_96 (dk_at dksX8_matches_2 23 rfl rfl)
theorem dX8_matches_70 : decode cX8_matches 70 = .ok (.invokevirtual 101, 3) := dk_182 0 101 (dk_at dksX8_matches_3 0 rfl rfl)
theorem dX8_matches_73 : decode cX8_matches 73 = .ok (.aload_n 0, 1) := dk_42 (dk_at dksX8_matches_3 3 rfl rfl)
theorem dX8_matches_74 : decode cX8_matches 74 = .ok (.iload_n 1, 1) := dk_27 (dk_at dksX8_matches_3 4 rfl rfl)
theorem dX8_matches_75 : decode cX8_matches 75 = .ok (.invokevirtual 108, 3) := dk_182 0 108 (dk_at dksX8_matches_3 5 rfl rfl)
theorem dX8_matches_78 : decode cX8_matches 78 = .ok (.if_icmp .gt 9, 3) := dk_163 0 9 (dk_at dksX8_matches_3 8 rfl rfl)
theorem dX8_matches_81 : decode cX8_matches 81 = .ok (.aload_n 0, 1) := dk_42 (dk_at dksX8_matches_3 11 rfl rfl)
theorem dX8_matches_82 : decode cX8_matches 82 = .ok (.iload_n 1, 1) := dk_27 (dk_at dksX8_matches_3 12 rfl rfl)
theorem dX8_matches_83 : decode cX8_matches 83 = .ok (.iload_n 3, 1) := dk_29 (dk_at dksX8_matches_3 13 rfl rfl)
theorem dX8_matches_84 : decode cX8_matches 84 = .ok (.invokevirtual 289, 3) := dk_182 1 33 (dk_at dksX8_matches_3 14 rfl rfl)
theorem dX8_matches_87 : decode cX8_matches 87 = .ok (.return_, 1) := dk_177 (dk_at dksX8_matches_3 17 rfl rfl)
abbrev cX8_answersReads : ByteArray := prog_18_method_77_code
def yX8_answersReads : MethodName := ⟨RX8, "answersReads", "(I)V"⟩
def dkwX8_answersReads_5 : List UInt8 := [180, 0, 7, 29, 6, 96, 46, 162, 0, 7, 42, 182, 1, 48, 132, 2, 1, 167, 255, 122, 177]
abbrev dktX8_answersReads_5 : List UInt8 := dkwX8_answersReads_5 ++ []
def dkwX8_answersReads_4 : List UInt8 := [16, 15, 42, 180, 0, 7, 29, 4, 96, 46, 96, 182, 0, 101, 79, 42, 27, 16, 9, 182, 0, 101, 42]
abbrev dktX8_answersReads_4 : List UInt8 := dkwX8_answersReads_4 ++ dktX8_answersReads_5
def dkwX8_answersReads_3 : List UInt8 := [154, 0, 6, 167, 0, 58, 42, 180, 0, 7, 29, 7, 96, 4, 79, 42, 180, 0, 7, 29, 8, 96, 42, 27]
abbrev dktX8_answersReads_3 : List UInt8 := dkwX8_answersReads_3 ++ dktX8_answersReads_4
def dkwX8_answersReads_2 : List UInt8 := [7, 96, 46, 154, 0, 82, 42, 27, 42, 27, 42, 180, 0, 7, 29, 5, 96, 46, 182, 1, 88, 182, 1, 42]
abbrev dktX8_answersReads_2 : List UInt8 := dkwX8_answersReads_2 ++ dktX8_answersReads_3
def dkwX8_answersReads_1 : List UInt8 := [17, 43, 20, 16, 6, 28, 104, 96, 62, 42, 180, 0, 7, 29, 46, 27, 160, 0, 93, 42, 180, 0, 7, 29]
abbrev dktX8_answersReads_1 : List UInt8 := dkwX8_answersReads_1 ++ dktX8_answersReads_2
def dkwX8_answersReads_0 : List UInt8 := [3, 61, 28, 42, 180, 0, 7, 17, 43, 127, 46, 162, 0, 128, 42, 27, 6, 182, 0, 101, 5, 160, 0, 118]
abbrev dktX8_answersReads_0 : List UInt8 := dkwX8_answersReads_0 ++ dktX8_answersReads_1
theorem dksX8_answersReads_0 : cX8_answersReads.data.toList.drop 0 = dktX8_answersReads_0 := by decide +kernel
theorem dksX8_answersReads_1 : cX8_answersReads.data.toList.drop 24 = dktX8_answersReads_1 := dk_seg dksX8_answersReads_0 24 rfl rfl
theorem dksX8_answersReads_2 : cX8_answersReads.data.toList.drop 48 = dktX8_answersReads_2 := dk_seg dksX8_answersReads_1 24 rfl rfl
theorem dksX8_answersReads_3 : cX8_answersReads.data.toList.drop 72 = dktX8_answersReads_3 := dk_seg dksX8_answersReads_2 24 rfl rfl
theorem dksX8_answersReads_4 : cX8_answersReads.data.toList.drop 96 = dktX8_answersReads_4 := dk_seg dksX8_answersReads_3 24 rfl rfl
theorem dksX8_answersReads_5 : cX8_answersReads.data.toList.drop 119 = dktX8_answersReads_5 := dk_seg dksX8_answersReads_4 23 rfl rfl
theorem dX8_answersReads_0 : decode cX8_answersReads 0 = .ok (.iconst 0, 1) := dk_3 (dk_at dksX8_answersReads_0 0 rfl rfl)
theorem dX8_answersReads_1 : decode cX8_answersReads 1 = .ok (.istore_n 2, 1) := dk_61 (dk_at dksX8_answersReads_0 1 rfl rfl)
theorem dX8_answersReads_2 : decode cX8_answersReads 2 = .ok (.iload_n 2, 1) := dk_28 (dk_at dksX8_answersReads_0 2 rfl rfl)
theorem dX8_answersReads_3 : decode cX8_answersReads 3 = .ok (.aload_n 0, 1) := dk_42 (dk_at dksX8_answersReads_0 3 rfl rfl)
theorem dX8_answersReads_4 : decode cX8_answersReads 4 = .ok (.getfield 7, 3) := dk_180 0 7 (dk_at dksX8_answersReads_0 4 rfl rfl)
theorem dX8_answersReads_7 : decode cX8_answersReads 7 = .ok (.sipush 11135, 3) := dk_17 43 127 (dk_at dksX8_answersReads_0 7 rfl rfl)
theorem dX8_answersReads_10 : decode cX8_answersReads 10 = .ok (.iaload, 1) := dk_46 (dk_at dksX8_answersReads_0 10 rfl rfl)
theorem dX8_answersReads_11 : decode cX8_answersReads 11 = .ok (.if_icmp .ge 128, 3) := dk_162 0 128 (dk_at dksX8_answersReads_0 11 rfl rfl)
theorem dX8_answersReads_14 : decode cX8_answersReads 14 = .ok (.aload_n 0, 1) := dk_42 (dk_at dksX8_answersReads_0 14 rfl rfl)
theorem dX8_answersReads_15 : decode cX8_answersReads 15 = .ok (.iload_n 1, 1) := dk_27 (dk_at dksX8_answersReads_0 15 rfl rfl)
theorem dX8_answersReads_16 : decode cX8_answersReads 16 = .ok (.iconst 3, 1) := dk_6 (dk_at dksX8_answersReads_0 16 rfl rfl)
theorem dX8_answersReads_17 : decode cX8_answersReads 17 = .ok (.invokevirtual 101, 3) := dk_182 0 101 (dk_at dksX8_answersReads_0 17 rfl rfl)
theorem dX8_answersReads_20 : decode cX8_answersReads 20 = .ok (.iconst 2, 1) := dk_5 (dk_at dksX8_answersReads_0 20 rfl rfl)
theorem dX8_answersReads_21 : decode cX8_answersReads 21 = .ok (.if_icmp .ne 118, 3) := dk_160 0 118 (dk_at dksX8_answersReads_0 21 rfl rfl)
theorem dX8_answersReads_24 : decode cX8_answersReads 24 = .ok (.sipush 11028, 3) := dk_17 43 20 (dk_at dksX8_answersReads_1 0 rfl rfl)
theorem dX8_answersReads_27 : decode cX8_answersReads 27 = .ok (.bipush 6, 2) := dk_16 6 (dk_at dksX8_answersReads_1 3 rfl rfl)
theorem dX8_answersReads_29 : decode cX8_answersReads 29 = .ok (.iload_n 2, 1) := dk_28 (dk_at dksX8_answersReads_1 5 rfl rfl)
theorem dX8_answersReads_30 : decode cX8_answersReads 30 = .ok (.imul, 1) := dk_104 (dk_at dksX8_answersReads_1 6 rfl rfl)
theorem dX8_answersReads_31 : decode cX8_answersReads 31 = .ok (.iadd, 1) := dk_96 (dk_at dksX8_answersReads_1 7 rfl rfl)
theorem dX8_answersReads_32 : decode cX8_answersReads 32 = .ok (.istore_n 3, 1) := dk_62 (dk_at dksX8_answersReads_1 8 rfl rfl)
theorem dX8_answersReads_33 : decode cX8_answersReads 33 = .ok (.aload_n 0, 1) := dk_42 (dk_at dksX8_answersReads_1 9 rfl rfl)
theorem dX8_answersReads_34 : decode cX8_answersReads 34 = .ok (.getfield 7, 3) := dk_180 0 7 (dk_at dksX8_answersReads_1 10 rfl rfl)
theorem dX8_answersReads_37 : decode cX8_answersReads 37 = .ok (.iload_n 3, 1) := dk_29 (dk_at dksX8_answersReads_1 13 rfl rfl)
theorem dX8_answersReads_38 : decode cX8_answersReads 38 = .ok (.iaload, 1) := dk_46 (dk_at dksX8_answersReads_1 14 rfl rfl)
theorem dX8_answersReads_39 : decode cX8_answersReads 39 = .ok (.iload_n 1, 1) := dk_27 (dk_at dksX8_answersReads_1 15 rfl rfl)
theorem dX8_answersReads_40 : decode cX8_answersReads 40 = .ok (.if_icmp .ne 93, 3) := dk_160 0 93 (dk_at dksX8_answersReads_1 16 rfl rfl)
theorem dX8_answersReads_43 : decode cX8_answersReads 43 = .ok (.aload_n 0, 1) := dk_42 (dk_at dksX8_answersReads_1 19 rfl rfl)
theorem dX8_answersReads_44 : decode cX8_answersReads 44 = .ok (.getfield 7, 3) := dk_180 0 7 (dk_at dksX8_answersReads_1 20 rfl rfl)
theorem dX8_answersReads_47 : decode cX8_answersReads 47 = .ok (.iload_n 3, 1) := dk_29 (dk_at dksX8_answersReads_1 23 rfl rfl)
theorem dX8_answersReads_48 : decode cX8_answersReads 48 = .ok (.iconst 4, 1) := dk_7 (dk_at dksX8_answersReads_2 0 rfl rfl)
theorem dX8_answersReads_49 : decode cX8_answersReads 49 = .ok (.iadd, 1) := dk_96 (dk_at dksX8_answersReads_2 1 rfl rfl)
theorem dX8_answersReads_50 : decode cX8_answersReads 50 = .ok (.iaload, 1) := dk_46 (dk_at dksX8_answersReads_2 2 rfl rfl)
theorem dX8_answersReads_51 : decode cX8_answersReads 51 = .ok (.ifCond .ne 82, 3) := dk_154 0 82 (dk_at dksX8_answersReads_2 3 rfl rfl)
theorem dX8_answersReads_54 : decode cX8_answersReads 54 = .ok (.aload_n 0, 1) := dk_42 (dk_at dksX8_answersReads_2 6 rfl rfl)
theorem dX8_answersReads_55 : decode cX8_answersReads 55 = .ok (.iload_n 1, 1) := dk_27 (dk_at dksX8_answersReads_2 7 rfl rfl)
theorem dX8_answersReads_56 : decode cX8_answersReads 56 = .ok (.aload_n 0, 1) := dk_42 (dk_at dksX8_answersReads_2 8 rfl rfl)
theorem dX8_answersReads_57 : decode cX8_answersReads 57 = .ok (.iload_n 1, 1) := dk_27 (dk_at dksX8_answersReads_2 9 rfl rfl)
theorem dX8_answersReads_58 : decode cX8_answersReads 58 = .ok (.aload_n 0, 1) := dk_42 (dk_at dksX8_answersReads_2 10 rfl rfl)
theorem dX8_answersReads_59 : decode cX8_answersReads 59 = .ok (.getfield 7, 3) := dk_180 0 7 (dk_at dksX8_answersReads_2 11 rfl rfl)
theorem dX8_answersReads_62 : decode cX8_answersReads 62 = .ok (.iload_n 3, 1) := dk_29 (dk_at dksX8_answersReads_2 14 rfl rfl)
theorem dX8_answersReads_63 : decode cX8_answersReads 63 = .ok (.iconst 2, 1) := dk_5 (dk_at dksX8_answersReads_2 15 rfl rfl)
theorem dX8_answersReads_64 : decode cX8_answersReads 64 = .ok (.iadd, 1) := dk_96 (dk_at dksX8_answersReads_2 16 rfl rfl)
theorem dX8_answersReads_65 : decode cX8_answersReads 65 = .ok (.iaload, 1) := dk_46 (dk_at dksX8_answersReads_2 17 rfl rfl)
theorem dX8_answersReads_66 : decode cX8_answersReads 66 = .ok (.invokevirtual 344, 3) := dk_182 1 88 (dk_at dksX8_answersReads_2 18 rfl rfl)
theorem dX8_answersReads_69 : decode cX8_answersReads 69 = .ok (.invokevirtual 298, 3) := dk_182 1 42 (dk_at dksX8_answersReads_2 21 rfl rfl)
theorem dX8_answersReads_72 : decode cX8_answersReads 72 = .ok (.ifCond .ne 6, 3) := dk_154 0 6 (dk_at dksX8_answersReads_3 0 rfl rfl)
theorem dX8_answersReads_75 : decode cX8_answersReads 75 = .ok (.goto 58, 3) := dk_167 0 58 (dk_at dksX8_answersReads_3 3 rfl rfl)
theorem dX8_answersReads_78 : decode cX8_answersReads 78 = .ok (.aload_n 0, 1) := dk_42 (dk_at dksX8_answersReads_3 6 rfl rfl)
theorem dX8_answersReads_79 : decode cX8_answersReads 79 = .ok (.getfield 7, 3) := dk_180 0 7 (dk_at dksX8_answersReads_3 7 rfl rfl)
theorem dX8_answersReads_82 : decode cX8_answersReads 82 = .ok (.iload_n 3, 1) := dk_29 (dk_at dksX8_answersReads_3 10 rfl rfl)
theorem dX8_answersReads_83 : decode cX8_answersReads 83 = .ok (.iconst 4, 1) := dk_7 (dk_at dksX8_answersReads_3 11 rfl rfl)
theorem dX8_answersReads_84 : decode cX8_answersReads 84 = .ok (.iadd, 1) := dk_96 (dk_at dksX8_answersReads_3 12 rfl rfl)
theorem dX8_answersReads_85 : decode cX8_answersReads 85 = .ok (.iconst 1, 1) := dk_4 (dk_at dksX8_answersReads_3 13 rfl rfl)
theorem dX8_answersReads_86 : decode cX8_answersReads 86 = .ok (.iastore, 1) := dk_79 (dk_at dksX8_answersReads_3 14 rfl rfl)
theorem dX8_answersReads_87 : decode cX8_answersReads 87 = .ok (.aload_n 0, 1) := dk_42 (dk_at dksX8_answersReads_3 15 rfl rfl)
theorem dX8_answersReads_88 : decode cX8_answersReads 88 = .ok (.getfield 7, 3) := dk_180 0 7 (dk_at dksX8_answersReads_3 16 rfl rfl)
theorem dX8_answersReads_91 : decode cX8_answersReads 91 = .ok (.iload_n 3, 1) := dk_29 (dk_at dksX8_answersReads_3 19 rfl rfl)
theorem dX8_answersReads_92 : decode cX8_answersReads 92 = .ok (.iconst 5, 1) := dk_8 (dk_at dksX8_answersReads_3 20 rfl rfl)
theorem dX8_answersReads_93 : decode cX8_answersReads 93 = .ok (.iadd, 1) := dk_96 (dk_at dksX8_answersReads_3 21 rfl rfl)
theorem dX8_answersReads_94 : decode cX8_answersReads 94 = .ok (.aload_n 0, 1) := dk_42 (dk_at dksX8_answersReads_3 22 rfl rfl)
theorem dX8_answersReads_95 : decode cX8_answersReads 95 = .ok (.iload_n 1, 1) := dk_27 (dk_at dksX8_answersReads_3 23 rfl rfl)
theorem dX8_answersReads_96 : decode cX8_answersReads 96 = .ok (.bipush 15, 2) := dk_16 15 (dk_at dksX8_answersReads_4 0 rfl rfl)
theorem dX8_answersReads_98 : decode cX8_answersReads 98 = .ok (.aload_n 0, 1) := dk_42 (dk_at dksX8_answersReads_4 2 rfl rfl)
theorem dX8_answersReads_99 : decode cX8_answersReads 99 = .ok (.getfield 7, 3) := dk_180 0 7 (dk_at dksX8_answersReads_4 3 rfl rfl)
theorem dX8_answersReads_102 : decode cX8_answersReads 102 = .ok (.iload_n 3, 1) := dk_29 (dk_at dksX8_answersReads_4 6 rfl rfl)
theorem dX8_answersReads_103 : decode cX8_answersReads 103 = .ok (.iconst 1, 1) := dk_4 (dk_at dksX8_answersReads_4 7 rfl rfl)
theorem dX8_answersReads_104 : decode cX8_answersReads 104 = .ok (.iadd, 1) := dk_96 (dk_at dksX8_answersReads_4 8 rfl rfl)
theorem dX8_answersReads_105 : decode cX8_answersReads 105 = .ok (.iaload, 1) := dk_46 (dk_at dksX8_answersReads_4 9 rfl rfl)
theorem dX8_answersReads_106 : decode cX8_answersReads 106 = .ok (.iadd, 1) := dk_96 (dk_at dksX8_answersReads_4 10 rfl rfl)
theorem dX8_answersReads_107 : decode cX8_answersReads 107 = .ok (.invokevirtual 101, 3) := dk_182 0 101 (dk_at dksX8_answersReads_4 11 rfl rfl)
theorem dX8_answersReads_110 : decode cX8_answersReads 110 = .ok (.iastore, 1) := dk_79 (dk_at dksX8_answersReads_4 14 rfl rfl)
theorem dX8_answersReads_111 : decode cX8_answersReads 111 = .ok (.aload_n 0, 1) := dk_42 (dk_at dksX8_answersReads_4 15 rfl rfl)
theorem dX8_answersReads_112 : decode cX8_answersReads 112 = .ok (.iload_n 1, 1) := dk_27 (dk_at dksX8_answersReads_4 16 rfl rfl)
theorem dX8_answersReads_113 : decode cX8_answersReads 113 = .ok (.bipush 9, 2) := dk_16 9 (dk_at dksX8_answersReads_4 17 rfl rfl)
theorem dX8_answersReads_115 : decode cX8_answersReads 115 = .ok (.invokevirtual 101, 3) := dk_182 0 101 (dk_at dksX8_answersReads_4 19 rfl rfl)
theorem dX8_answersReads_118 : decode cX8_answersReads 118 = .ok (.aload_n 0, 1) := dk_42 (dk_at dksX8_answersReads_4 22 rfl rfl)
theorem dX8_answersReads_119 : decode cX8_answersReads 119 = .ok (.getfield 7, 3) := dk_180 0 7 (dk_at dksX8_answersReads_5 0 rfl rfl)
theorem dX8_answersReads_122 : decode cX8_answersReads 122 = .ok (.iload_n 3, 1) := dk_29 (dk_at dksX8_answersReads_5 3 rfl rfl)
theorem dX8_answersReads_123 : decode cX8_answersReads 123 = .ok (.iconst 3, 1) := dk_6 (dk_at dksX8_answersReads_5 4 rfl rfl)
theorem dX8_answersReads_124 : decode cX8_answersReads 124 = .ok (.iadd, 1) := dk_96 (dk_at dksX8_answersReads_5 5 rfl rfl)
theorem dX8_answersReads_125 : decode cX8_answersReads 125 = .ok (.iaload, 1) := dk_46 (dk_at dksX8_answersReads_5 6 rfl rfl)
theorem dX8_answersReads_126 : decode cX8_answersReads 126 = .ok (.if_icmp .ge 7, 3) := dk_162 0 7 (dk_at dksX8_answersReads_5 7 rfl rfl)
theorem dX8_answersReads_129 : decode cX8_answersReads 129 = .ok (.aload_n 0, 1) := dk_42 (dk_at dksX8_answersReads_5 10 rfl rfl)
theorem dX8_answersReads_130 : decode cX8_answersReads 130 = .ok (.invokevirtual 304, 3) := dk_182 1 48 (dk_at dksX8_answersReads_5 11 rfl rfl)
theorem dX8_answersReads_133 : decode cX8_answersReads 133 = .ok (.iinc 2 1, 3) := dk_132 2 1 (dk_at dksX8_answersReads_5 14 rfl rfl)
theorem dX8_answersReads_136 : decode cX8_answersReads 136 = .ok (.goto (-134), 3) := dk_167 255 122 (dk_at dksX8_answersReads_5 17 rfl rfl)
theorem dX8_answersReads_139 : decode cX8_answersReads 139 = .ok (.return_, 1) := dk_177 (dk_at dksX8_answersReads_5 20 rfl rfl)
abbrev cX8_whoHeard : ByteArray := prog_18_method_76_code
def yX8_whoHeard : MethodName := ⟨RX8, "whoHeard", "(II)I"⟩
def dkwX8_whoHeard_1 : List UInt8 := [28, 161, 0, 10, 29, 4, 21, 4, 120, 128, 62, 132, 4, 1, 167, 255, 225, 29, 172]
abbrev dktX8_whoHeard_1 : List UInt8 := dkwX8_whoHeard_1 ++ []
def dkwX8_whoHeard_0 : List UInt8 := [4, 27, 120, 62, 3, 54, 4, 21, 4, 16, 7, 162, 0, 30, 42, 27, 16, 45, 21, 4, 96, 182, 0, 101]
abbrev dktX8_whoHeard_0 : List UInt8 := dkwX8_whoHeard_0 ++ dktX8_whoHeard_1
theorem dksX8_whoHeard_0 : cX8_whoHeard.data.toList.drop 0 = dktX8_whoHeard_0 := by decide +kernel
theorem dksX8_whoHeard_1 : cX8_whoHeard.data.toList.drop 24 = dktX8_whoHeard_1 := dk_seg dksX8_whoHeard_0 24 rfl rfl
theorem dX8_whoHeard_0 : decode cX8_whoHeard 0 = .ok (.iconst 1, 1) := dk_4 (dk_at dksX8_whoHeard_0 0 rfl rfl)
theorem dX8_whoHeard_1 : decode cX8_whoHeard 1 = .ok (.iload_n 1, 1) := dk_27 (dk_at dksX8_whoHeard_0 1 rfl rfl)
theorem dX8_whoHeard_2 : decode cX8_whoHeard 2 = .ok (.ishl, 1) := dk_120 (dk_at dksX8_whoHeard_0 2 rfl rfl)
theorem dX8_whoHeard_3 : decode cX8_whoHeard 3 = .ok (.istore_n 3, 1) := dk_62 (dk_at dksX8_whoHeard_0 3 rfl rfl)
theorem dX8_whoHeard_4 : decode cX8_whoHeard 4 = .ok (.iconst 0, 1) := dk_3 (dk_at dksX8_whoHeard_0 4 rfl rfl)
theorem dX8_whoHeard_5 : decode cX8_whoHeard 5 = .ok (.istore 4, 2) := dk_54 4 (dk_at dksX8_whoHeard_0 5 rfl rfl)
theorem dX8_whoHeard_7 : decode cX8_whoHeard 7 = .ok (.iload 4, 2) := dk_21 4 (dk_at dksX8_whoHeard_0 7 rfl rfl)
theorem dX8_whoHeard_9 : decode cX8_whoHeard 9 = .ok (.bipush 7, 2) := dk_16 7 (dk_at dksX8_whoHeard_0 9 rfl rfl)
theorem dX8_whoHeard_11 : decode cX8_whoHeard 11 = .ok (.if_icmp .ge 30, 3) := dk_162 0 30 (dk_at dksX8_whoHeard_0 11 rfl rfl)
theorem dX8_whoHeard_14 : decode cX8_whoHeard 14 = .ok (.aload_n 0, 1) := dk_42 (dk_at dksX8_whoHeard_0 14 rfl rfl)
theorem dX8_whoHeard_15 : decode cX8_whoHeard 15 = .ok (.iload_n 1, 1) := dk_27 (dk_at dksX8_whoHeard_0 15 rfl rfl)
theorem dX8_whoHeard_16 : decode cX8_whoHeard 16 = .ok (.bipush 45, 2) := dk_16 45 (dk_at dksX8_whoHeard_0 16 rfl rfl)
theorem dX8_whoHeard_18 : decode cX8_whoHeard 18 = .ok (.iload 4, 2) := dk_21 4 (dk_at dksX8_whoHeard_0 18 rfl rfl)
theorem dX8_whoHeard_20 : decode cX8_whoHeard 20 = .ok (.iadd, 1) := dk_96 (dk_at dksX8_whoHeard_0 20 rfl rfl)
theorem dX8_whoHeard_21 : decode cX8_whoHeard 21 = .ok (.invokevirtual 101, 3) := dk_182 0 101 (dk_at dksX8_whoHeard_0 21 rfl rfl)
theorem dX8_whoHeard_24 : decode cX8_whoHeard 24 = .ok (.iload_n 2, 1) := dk_28 (dk_at dksX8_whoHeard_1 0 rfl rfl)
theorem dX8_whoHeard_25 : decode cX8_whoHeard 25 = .ok (.if_icmp .lt 10, 3) := dk_161 0 10 (dk_at dksX8_whoHeard_1 1 rfl rfl)
theorem dX8_whoHeard_28 : decode cX8_whoHeard 28 = .ok (.iload_n 3, 1) := dk_29 (dk_at dksX8_whoHeard_1 4 rfl rfl)
theorem dX8_whoHeard_29 : decode cX8_whoHeard 29 = .ok (.iconst 1, 1) := dk_4 (dk_at dksX8_whoHeard_1 5 rfl rfl)
theorem dX8_whoHeard_30 : decode cX8_whoHeard 30 = .ok (.iload 4, 2) := dk_21 4 (dk_at dksX8_whoHeard_1 6 rfl rfl)
theorem dX8_whoHeard_32 : decode cX8_whoHeard 32 = .ok (.ishl, 1) := dk_120 (dk_at dksX8_whoHeard_1 8 rfl rfl)
theorem dX8_whoHeard_33 : decode cX8_whoHeard 33 = .ok (.ior, 1) := dk_128 (dk_at dksX8_whoHeard_1 9 rfl rfl)
theorem dX8_whoHeard_34 : decode cX8_whoHeard 34 = .ok (.istore_n 3, 1) := dk_62 (dk_at dksX8_whoHeard_1 10 rfl rfl)
theorem dX8_whoHeard_35 : decode cX8_whoHeard 35 = .ok (.iinc 4 1, 3) := dk_132 4 1 (dk_at dksX8_whoHeard_1 11 rfl rfl)
theorem dX8_whoHeard_38 : decode cX8_whoHeard 38 = .ok (.goto (-31), 3) := dk_167 255 225 (dk_at dksX8_whoHeard_1 14 rfl rfl)
theorem dX8_whoHeard_41 : decode cX8_whoHeard 41 = .ok (.iload_n 3, 1) := dk_29 (dk_at dksX8_whoHeard_1 17 rfl rfl)
theorem dX8_whoHeard_42 : decode cX8_whoHeard 42 = .ok (.ireturn, 1) := dk_172 (dk_at dksX8_whoHeard_1 18 rfl rfl)
abbrev cX8_hasSnapshot : ByteArray := prog_18_method_90_code
def yX8_hasSnapshot : MethodName := ⟨RX8, "hasSnapshot", "(I)V"⟩
def dkwX8_hasSnapshot_9 : List UInt8 := [132, 3, 1, 167, 255, 211, 42, 8, 28, 3, 42, 180, 0, 22, 16, 10, 46, 182, 1, 115, 177]
abbrev dktX8_hasSnapshot_9 : List UInt8 := dkwX8_hasSnapshot_9 ++ []
def dkwX8_hasSnapshot_8 : List UInt8 := [29, 96, 46, 182, 0, 133, 42, 27, 16, 15, 29, 96, 42, 180, 0, 22, 16, 11, 29, 96, 46, 182, 0, 133]
abbrev dktX8_hasSnapshot_8 : List UInt8 := dkwX8_hasSnapshot_8 ++ dktX8_hasSnapshot_9
def dkwX8_hasSnapshot_7 : List UInt8 := [28, 182, 0, 133, 3, 62, 29, 16, 8, 162, 0, 45, 42, 27, 16, 23, 29, 96, 42, 180, 0, 22, 16, 11]
abbrev dktX8_hasSnapshot_7 : List UInt8 := dkwX8_hasSnapshot_7 ++ dktX8_hasSnapshot_8
def dkwX8_hasSnapshot_6 : List UInt8 := [16, 8, 46, 182, 0, 133, 42, 27, 16, 7, 42, 180, 0, 22, 16, 9, 46, 182, 0, 133, 42, 27, 16, 9]
abbrev dktX8_hasSnapshot_6 : List UInt8 := dkwX8_hasSnapshot_6 ++ dktX8_hasSnapshot_7
def dkwX8_hasSnapshot_5 : List UInt8 := [182, 0, 140, 42, 27, 8, 42, 180, 0, 22, 16, 7, 46, 182, 0, 133, 42, 27, 16, 6, 42, 180, 0, 22]
abbrev dktX8_hasSnapshot_5 : List UInt8 := dkwX8_hasSnapshot_5 ++ dktX8_hasSnapshot_6
def dkwX8_hasSnapshot_4 : List UInt8 := [182, 0, 137, 42, 180, 0, 22, 16, 7, 46, 159, 0, 11, 42, 27, 16, 8, 3, 182, 0, 133, 42, 27, 28]
abbrev dktX8_hasSnapshot_4 : List UInt8 := dkwX8_hasSnapshot_4 ++ dktX8_hasSnapshot_5
def dkwX8_hasSnapshot_3 : List UInt8 := [180, 0, 22, 16, 10, 46, 182, 1, 115, 177, 42, 27, 28, 182, 1, 67, 153, 0, 19, 42, 27, 28]
abbrev dktX8_hasSnapshot_3 : List UInt8 := dkwX8_hasSnapshot_3 ++ dktX8_hasSnapshot_4
def dkwX8_hasSnapshot_2 : List UInt8 := [28, 42, 27, 16, 9, 182, 0, 101, 163, 0, 24, 42, 8, 42, 27, 16, 9, 182, 0, 101, 3, 42]
abbrev dktX8_hasSnapshot_2 : List UInt8 := dkwX8_hasSnapshot_2 ++ dktX8_hasSnapshot_3
def dkwX8_hasSnapshot_1 : List UInt8 := [8, 3, 3, 3, 182, 1, 115, 177, 42, 27, 42, 180, 0, 22, 3, 46, 182, 1, 85, 42, 27, 182, 1, 39]
abbrev dktX8_hasSnapshot_1 : List UInt8 := dkwX8_hasSnapshot_1 ++ dktX8_hasSnapshot_2
def dkwX8_hasSnapshot_0 : List UInt8 := [42, 180, 0, 22, 16, 6, 46, 61, 42, 180, 0, 22, 6, 46, 42, 27, 4, 182, 0, 101, 162, 0, 12, 42]
abbrev dktX8_hasSnapshot_0 : List UInt8 := dkwX8_hasSnapshot_0 ++ dktX8_hasSnapshot_1
theorem dksX8_hasSnapshot_0 : cX8_hasSnapshot.data.toList.drop 0 = dktX8_hasSnapshot_0 := by decide +kernel
theorem dksX8_hasSnapshot_1 : cX8_hasSnapshot.data.toList.drop 24 = dktX8_hasSnapshot_1 := dk_seg dksX8_hasSnapshot_0 24 rfl rfl
theorem dksX8_hasSnapshot_2 : cX8_hasSnapshot.data.toList.drop 48 = dktX8_hasSnapshot_2 := dk_seg dksX8_hasSnapshot_1 24 rfl rfl
theorem dksX8_hasSnapshot_3 : cX8_hasSnapshot.data.toList.drop 70 = dktX8_hasSnapshot_3 := dk_seg dksX8_hasSnapshot_2 22 rfl rfl
theorem dksX8_hasSnapshot_4 : cX8_hasSnapshot.data.toList.drop 92 = dktX8_hasSnapshot_4 := dk_seg dksX8_hasSnapshot_3 22 rfl rfl
theorem dksX8_hasSnapshot_5 : cX8_hasSnapshot.data.toList.drop 116 = dktX8_hasSnapshot_5 := dk_seg dksX8_hasSnapshot_4 24 rfl rfl
theorem dksX8_hasSnapshot_6 : cX8_hasSnapshot.data.toList.drop 140 = dktX8_hasSnapshot_6 := dk_seg dksX8_hasSnapshot_5 24 rfl rfl
theorem dksX8_hasSnapshot_7 : cX8_hasSnapshot.data.toList.drop 164 = dktX8_hasSnapshot_7 := dk_seg dksX8_hasSnapshot_6 24 rfl rfl
theorem dksX8_hasSnapshot_8 : cX8_hasSnapshot.data.toList.drop 188 = dktX8_hasSnapshot_8 := dk_seg dksX8_hasSnapshot_7 24 rfl rfl
theorem dksX8_hasSnapshot_9 : cX8_hasSnapshot.data.toList.drop 212 = dktX8_hasSnapshot_9 := dk_seg dksX8_hasSnapshot_8 24 rfl rfl
theorem dX8_hasSnapshot_0 : decode cX8_hasSnapshot 0 = .ok (.aload_n 0, 1) := dk_42 (dk_at dksX8_hasSnapshot_0 0 rfl rfl)
theorem dX8_hasSnapshot_1 : decode cX8_hasSnapshot 1 = .ok (.getfield 22, 3) := dk_180 0 22 (dk_at dksX8_hasSnapshot_0 1 rfl rfl)
theorem dX8_hasSnapshot_4 : decode cX8_hasSnapshot 4 = .ok (.bipush 6, 2) := dk_16 6 (dk_at dksX8_hasSnapshot_0 4 rfl rfl)
theorem dX8_hasSnapshot_6 : decode cX8_hasSnapshot 6 = .ok (.iaload, 1) := dk_46 (dk_at dksX8_hasSnapshot_0 6 rfl rfl)
theorem dX8_hasSnapshot_7 : decode cX8_hasSnapshot 7 = .ok (.istore_n 2, 1) := dk_61 (dk_at dksX8_hasSnapshot_0 7 rfl rfl)
theorem dX8_hasSnapshot_8 : decode cX8_hasSnapshot 8 = .ok (.aload_n 0, 1) := dk_42 (dk_at dksX8_hasSnapshot_0 8 rfl rfl)
theorem dX8_hasSnapshot_9 : decode cX8_hasSnapshot 9 = .ok (.getfield 22, 3) := dk_180 0 22 (dk_at dksX8_hasSnapshot_0 9 rfl rfl)
theorem dX8_hasSnapshot_12 : decode cX8_hasSnapshot 12 = .ok (.iconst 3, 1) := dk_6 (dk_at dksX8_hasSnapshot_0 12 rfl rfl)
theorem dX8_hasSnapshot_13 : decode cX8_hasSnapshot 13 = .ok (.iaload, 1) := dk_46 (dk_at dksX8_hasSnapshot_0 13 rfl rfl)
theorem dX8_hasSnapshot_14 : decode cX8_hasSnapshot 14 = .ok (.aload_n 0, 1) := dk_42 (dk_at dksX8_hasSnapshot_0 14 rfl rfl)
theorem dX8_hasSnapshot_15 : decode cX8_hasSnapshot 15 = .ok (.iload_n 1, 1) := dk_27 (dk_at dksX8_hasSnapshot_0 15 rfl rfl)
theorem dX8_hasSnapshot_16 : decode cX8_hasSnapshot 16 = .ok (.iconst 1, 1) := dk_4 (dk_at dksX8_hasSnapshot_0 16 rfl rfl)
theorem dX8_hasSnapshot_17 : decode cX8_hasSnapshot 17 = .ok (.invokevirtual 101, 3) := dk_182 0 101 (dk_at dksX8_hasSnapshot_0 17 rfl rfl)
theorem dX8_hasSnapshot_20 : decode cX8_hasSnapshot 20 = .ok (.if_icmp .ge 12, 3) := dk_162 0 12 (dk_at dksX8_hasSnapshot_0 20 rfl rfl)
theorem dX8_hasSnapshot_23 : decode cX8_hasSnapshot 23 = .ok (.aload_n 0, 1) := dk_42 (dk_at dksX8_hasSnapshot_0 23 rfl rfl)
theorem dX8_hasSnapshot_24 : decode cX8_hasSnapshot 24 = .ok (.iconst 5, 1) := dk_8 (dk_at dksX8_hasSnapshot_1 0 rfl rfl)
theorem dX8_hasSnapshot_25 : decode cX8_hasSnapshot 25 = .ok (.iconst 0, 1) := dk_3 (dk_at dksX8_hasSnapshot_1 1 rfl rfl)
theorem dX8_hasSnapshot_26 : decode cX8_hasSnapshot 26 = .ok (.iconst 0, 1) := dk_3 (dk_at dksX8_hasSnapshot_1 2 rfl rfl)
theorem dX8_hasSnapshot_27 : decode cX8_hasSnapshot 27 = .ok (.iconst 0, 1) := dk_3 (dk_at dksX8_hasSnapshot_1 3 rfl rfl)
theorem dX8_hasSnapshot_28 : decode cX8_hasSnapshot 28 = .ok (.invokevirtual 371, 3) := dk_182 1 115 (dk_at dksX8_hasSnapshot_1 4 rfl rfl)
theorem dX8_hasSnapshot_31 : decode cX8_hasSnapshot 31 = .ok (.return_, 1) := dk_177 (dk_at dksX8_hasSnapshot_1 7 rfl rfl)
theorem dX8_hasSnapshot_32 : decode cX8_hasSnapshot 32 = .ok (.aload_n 0, 1) := dk_42 (dk_at dksX8_hasSnapshot_1 8 rfl rfl)
theorem dX8_hasSnapshot_33 : decode cX8_hasSnapshot 33 = .ok (.iload_n 1, 1) := dk_27 (dk_at dksX8_hasSnapshot_1 9 rfl rfl)
theorem dX8_hasSnapshot_34 : decode cX8_hasSnapshot 34 = .ok (.aload_n 0, 1) := dk_42 (dk_at dksX8_hasSnapshot_1 10 rfl rfl)
theorem dX8_hasSnapshot_35 : decode cX8_hasSnapshot 35 = .ok (.getfield 22, 3) := dk_180 0 22 (dk_at dksX8_hasSnapshot_1 11 rfl rfl)
theorem dX8_hasSnapshot_38 : decode cX8_hasSnapshot 38 = .ok (.iconst 0, 1) := dk_3 (dk_at dksX8_hasSnapshot_1 14 rfl rfl)
theorem dX8_hasSnapshot_39 : decode cX8_hasSnapshot 39 = .ok (.iaload, 1) := dk_46 (dk_at dksX8_hasSnapshot_1 15 rfl rfl)
theorem dX8_hasSnapshot_40 : decode cX8_hasSnapshot 40 = .ok (.invokevirtual 341, 3) := dk_182 1 85 (dk_at dksX8_hasSnapshot_1 16 rfl rfl)
theorem dX8_hasSnapshot_43 : decode cX8_hasSnapshot 43 = .ok (.aload_n 0, 1) := dk_42 (dk_at dksX8_hasSnapshot_1 19 rfl rfl)
theorem dX8_hasSnapshot_44 : decode cX8_hasSnapshot 44 = .ok (.iload_n 1, 1) := dk_27 (dk_at dksX8_hasSnapshot_1 20 rfl rfl)
theorem dX8_hasSnapshot_45 : decode cX8_hasSnapshot 45 = .ok (.invokevirtual 295, 3) := dk_182 1 39 (dk_at dksX8_hasSnapshot_1 21 rfl rfl)
theorem dX8_hasSnapshot_48 : decode cX8_hasSnapshot 48 = .ok (.iload_n 2, 1) := dk_28 (dk_at dksX8_hasSnapshot_2 0 rfl rfl)
theorem dX8_hasSnapshot_49 : decode cX8_hasSnapshot 49 = .ok (.aload_n 0, 1) := dk_42 (dk_at dksX8_hasSnapshot_2 1 rfl rfl)
theorem dX8_hasSnapshot_50 : decode cX8_hasSnapshot 50 = .ok (.iload_n 1, 1) := dk_27 (dk_at dksX8_hasSnapshot_2 2 rfl rfl)
theorem dX8_hasSnapshot_51 : decode cX8_hasSnapshot 51 = .ok (.bipush 9, 2) := dk_16 9 (dk_at dksX8_hasSnapshot_2 3 rfl rfl)
theorem dX8_hasSnapshot_53 : decode cX8_hasSnapshot 53 = .ok (.invokevirtual 101, 3) := dk_182 0 101 (dk_at dksX8_hasSnapshot_2 5 rfl rfl)
theorem dX8_hasSnapshot_56 : decode cX8_hasSnapshot 56 = .ok (.if_icmp .gt 24, 3) := dk_163 0 24 (dk_at dksX8_hasSnapshot_2 8 rfl rfl)
theorem dX8_hasSnapshot_59 : decode cX8_hasSnapshot 59 = .ok (.aload_n 0, 1) := dk_42 (dk_at dksX8_hasSnapshot_2 11 rfl rfl)
theorem dX8_hasSnapshot_60 : decode cX8_hasSnapshot 60 = .ok (.iconst 5, 1) := dk_8 (dk_at dksX8_hasSnapshot_2 12 rfl rfl)
theorem dX8_hasSnapshot_61 : decode cX8_hasSnapshot 61 = .ok (.aload_n 0, 1) := dk_42 (dk_at dksX8_hasSnapshot_2 13 rfl rfl)
theorem dX8_hasSnapshot_62 : decode cX8_hasSnapshot 62 = .ok (.iload_n 1, 1) := dk_27 (dk_at dksX8_hasSnapshot_2 14 rfl rfl)
theorem dX8_hasSnapshot_63 : decode cX8_hasSnapshot 63 = .ok (.bipush 9, 2) := dk_16 9 (dk_at dksX8_hasSnapshot_2 15 rfl rfl)
theorem dX8_hasSnapshot_65 : decode cX8_hasSnapshot 65 = .ok (.invokevirtual 101, 3) := dk_182 0 101 (dk_at dksX8_hasSnapshot_2 17 rfl rfl)
theorem dX8_hasSnapshot_68 : decode cX8_hasSnapshot 68 = .ok (.iconst 0, 1) := dk_3 (dk_at dksX8_hasSnapshot_2 20 rfl rfl)
theorem dX8_hasSnapshot_69 : decode cX8_hasSnapshot 69 = .ok (.aload_n 0, 1) := dk_42 (dk_at dksX8_hasSnapshot_2 21 rfl rfl)
theorem dX8_hasSnapshot_70 : decode cX8_hasSnapshot 70 = .ok (.getfield 22, 3) := dk_180 0 22 (dk_at dksX8_hasSnapshot_3 0 rfl rfl)
theorem dX8_hasSnapshot_73 : decode cX8_hasSnapshot 73 = .ok (.bipush 10, 2) := dk_16 10 (dk_at dksX8_hasSnapshot_3 3 rfl rfl)
theorem dX8_hasSnapshot_75 : decode cX8_hasSnapshot 75 = .ok (.iaload, 1) := dk_46 (dk_at dksX8_hasSnapshot_3 5 rfl rfl)
theorem dX8_hasSnapshot_76 : decode cX8_hasSnapshot 76 = .ok (.invokevirtual 371, 3) := dk_182 1 115 (dk_at dksX8_hasSnapshot_3 6 rfl rfl)
theorem dX8_hasSnapshot_79 : decode cX8_hasSnapshot 79 = .ok (.return_, 1) := dk_177 (dk_at dksX8_hasSnapshot_3 9 rfl rfl)
theorem dX8_hasSnapshot_80 : decode cX8_hasSnapshot 80 = .ok (.aload_n 0, 1) := dk_42 (dk_at dksX8_hasSnapshot_3 10 rfl rfl)
theorem dX8_hasSnapshot_81 : decode cX8_hasSnapshot 81 = .ok (.iload_n 1, 1) := dk_27 (dk_at dksX8_hasSnapshot_3 11 rfl rfl)
theorem dX8_hasSnapshot_82 : decode cX8_hasSnapshot 82 = .ok (.iload_n 2, 1) := dk_28 (dk_at dksX8_hasSnapshot_3 12 rfl rfl)
theorem dX8_hasSnapshot_83 : decode cX8_hasSnapshot 83 = .ok (.invokevirtual 323, 3) := dk_182 1 67 (dk_at dksX8_hasSnapshot_3 13 rfl rfl)
theorem dX8_hasSnapshot_86 : decode cX8_hasSnapshot 86 = .ok (.ifCond .eq 19, 3) := dk_153 0 19 (dk_at dksX8_hasSnapshot_3 16 rfl rfl)
theorem dX8_hasSnapshot_89 : decode cX8_hasSnapshot 89 = .ok (.aload_n 0, 1) := dk_42 (dk_at dksX8_hasSnapshot_3 19 rfl rfl)
theorem dX8_hasSnapshot_90 : decode cX8_hasSnapshot 90 = .ok (.iload_n 1, 1) := dk_27 (dk_at dksX8_hasSnapshot_3 20 rfl rfl)
theorem dX8_hasSnapshot_91 : decode cX8_hasSnapshot 91 = .ok (.iload_n 2, 1) := dk_28 (dk_at dksX8_hasSnapshot_3 21 rfl rfl)
theorem dX8_hasSnapshot_92 : decode cX8_hasSnapshot 92 = .ok (.invokevirtual 137, 3) := dk_182 0 137 (dk_at dksX8_hasSnapshot_4 0 rfl rfl)
theorem dX8_hasSnapshot_95 : decode cX8_hasSnapshot 95 = .ok (.aload_n 0, 1) := dk_42 (dk_at dksX8_hasSnapshot_4 3 rfl rfl)
theorem dX8_hasSnapshot_96 : decode cX8_hasSnapshot 96 = .ok (.getfield 22, 3) := dk_180 0 22 (dk_at dksX8_hasSnapshot_4 4 rfl rfl)
theorem dX8_hasSnapshot_99 : decode cX8_hasSnapshot 99 = .ok (.bipush 7, 2) := dk_16 7 (dk_at dksX8_hasSnapshot_4 7 rfl rfl)
theorem dX8_hasSnapshot_101 : decode cX8_hasSnapshot 101 = .ok (.iaload, 1) := dk_46 (dk_at dksX8_hasSnapshot_4 9 rfl rfl)
theorem dX8_hasSnapshot_102 : decode cX8_hasSnapshot 102 = .ok (.if_icmp .eq 11, 3) := dk_159 0 11 (dk_at dksX8_hasSnapshot_4 10 rfl rfl)
theorem dX8_hasSnapshot_105 : decode cX8_hasSnapshot 105 = .ok (.aload_n 0, 1) := dk_42 (dk_at dksX8_hasSnapshot_4 13 rfl rfl)
theorem dX8_hasSnapshot_106 : decode cX8_hasSnapshot 106 = .ok (.iload_n 1, 1) := dk_27 (dk_at dksX8_hasSnapshot_4 14 rfl rfl)
theorem dX8_hasSnapshot_107 : decode cX8_hasSnapshot 107 = .ok (.bipush 8, 2) := dk_16 8 (dk_at dksX8_hasSnapshot_4 15 rfl rfl)
theorem dX8_hasSnapshot_109 : decode cX8_hasSnapshot 109 = .ok (.iconst 0, 1) := dk_3 (dk_at dksX8_hasSnapshot_4 17 rfl rfl)
theorem dX8_hasSnapshot_110 : decode cX8_hasSnapshot 110 = .ok (.invokevirtual 133, 3) := dk_182 0 133 (dk_at dksX8_hasSnapshot_4 18 rfl rfl)
theorem dX8_hasSnapshot_113 : decode cX8_hasSnapshot 113 = .ok (.aload_n 0, 1) := dk_42 (dk_at dksX8_hasSnapshot_4 21 rfl rfl)
theorem dX8_hasSnapshot_114 : decode cX8_hasSnapshot 114 = .ok (.iload_n 1, 1) := dk_27 (dk_at dksX8_hasSnapshot_4 22 rfl rfl)
theorem dX8_hasSnapshot_115 : decode cX8_hasSnapshot 115 = .ok (.iload_n 2, 1) := dk_28 (dk_at dksX8_hasSnapshot_4 23 rfl rfl)
theorem dX8_hasSnapshot_116 : decode cX8_hasSnapshot 116 = .ok (.invokevirtual 140, 3) := dk_182 0 140 (dk_at dksX8_hasSnapshot_5 0 rfl rfl)
theorem dX8_hasSnapshot_119 : decode cX8_hasSnapshot 119 = .ok (.aload_n 0, 1) := dk_42 (dk_at dksX8_hasSnapshot_5 3 rfl rfl)
theorem dX8_hasSnapshot_120 : decode cX8_hasSnapshot 120 = .ok (.iload_n 1, 1) := dk_27 (dk_at dksX8_hasSnapshot_5 4 rfl rfl)
theorem dX8_hasSnapshot_121 : decode cX8_hasSnapshot 121 = .ok (.iconst 5, 1) := dk_8 (dk_at dksX8_hasSnapshot_5 5 rfl rfl)
theorem dX8_hasSnapshot_122 : decode cX8_hasSnapshot 122 = .ok (.aload_n 0, 1) := dk_42 (dk_at dksX8_hasSnapshot_5 6 rfl rfl)
theorem dX8_hasSnapshot_123 : decode cX8_hasSnapshot 123 = .ok (.getfield 22, 3) := dk_180 0 22 (dk_at dksX8_hasSnapshot_5 7 rfl rfl)
theorem dX8_hasSnapshot_126 : decode cX8_hasSnapshot 126 = .ok (.bipush 7, 2) := dk_16 7 (dk_at dksX8_hasSnapshot_5 10 rfl rfl)
theorem dX8_hasSnapshot_128 : decode cX8_hasSnapshot 128 = .ok (.iaload, 1) := dk_46 (dk_at dksX8_hasSnapshot_5 12 rfl rfl)
theorem dX8_hasSnapshot_129 : decode cX8_hasSnapshot 129 = .ok (.invokevirtual 133, 3) := dk_182 0 133 (dk_at dksX8_hasSnapshot_5 13 rfl rfl)
theorem dX8_hasSnapshot_132 : decode cX8_hasSnapshot 132 = .ok (.aload_n 0, 1) := dk_42 (dk_at dksX8_hasSnapshot_5 16 rfl rfl)
theorem dX8_hasSnapshot_133 : decode cX8_hasSnapshot 133 = .ok (.iload_n 1, 1) := dk_27 (dk_at dksX8_hasSnapshot_5 17 rfl rfl)
theorem dX8_hasSnapshot_134 : decode cX8_hasSnapshot 134 = .ok (.bipush 6, 2) := dk_16 6 (dk_at dksX8_hasSnapshot_5 18 rfl rfl)
theorem dX8_hasSnapshot_136 : decode cX8_hasSnapshot 136 = .ok (.aload_n 0, 1) := dk_42 (dk_at dksX8_hasSnapshot_5 20 rfl rfl)
theorem dX8_hasSnapshot_137 : decode cX8_hasSnapshot 137 = .ok (.getfield 22, 3) := dk_180 0 22 (dk_at dksX8_hasSnapshot_5 21 rfl rfl)
theorem dX8_hasSnapshot_140 : decode cX8_hasSnapshot 140 = .ok (.bipush 8, 2) := dk_16 8 (dk_at dksX8_hasSnapshot_6 0 rfl rfl)
theorem dX8_hasSnapshot_142 : decode cX8_hasSnapshot 142 = .ok (.iaload, 1) := dk_46 (dk_at dksX8_hasSnapshot_6 2 rfl rfl)
theorem dX8_hasSnapshot_143 : decode cX8_hasSnapshot 143 = .ok (.invokevirtual 133, 3) := dk_182 0 133 (dk_at dksX8_hasSnapshot_6 3 rfl rfl)
theorem dX8_hasSnapshot_146 : decode cX8_hasSnapshot 146 = .ok (.aload_n 0, 1) := dk_42 (dk_at dksX8_hasSnapshot_6 6 rfl rfl)
theorem dX8_hasSnapshot_147 : decode cX8_hasSnapshot 147 = .ok (.iload_n 1, 1) := dk_27 (dk_at dksX8_hasSnapshot_6 7 rfl rfl)
theorem dX8_hasSnapshot_148 : decode cX8_hasSnapshot 148 = .ok (.bipush 7, 2) := dk_16 7 (dk_at dksX8_hasSnapshot_6 8 rfl rfl)
theorem dX8_hasSnapshot_150 : decode cX8_hasSnapshot 150 = .ok (.aload_n 0, 1) := dk_42 (dk_at dksX8_hasSnapshot_6 10 rfl rfl)
theorem dX8_hasSnapshot_151 : decode cX8_hasSnapshot 151 = .ok (.getfield 22, 3) := dk_180 0 22 (dk_at dksX8_hasSnapshot_6 11 rfl rfl)
theorem dX8_hasSnapshot_154 : decode cX8_hasSnapshot 154 = .ok (.bipush 9, 2) := dk_16 9 (dk_at dksX8_hasSnapshot_6 14 rfl rfl)
theorem dX8_hasSnapshot_156 : decode cX8_hasSnapshot 156 = .ok (.iaload, 1) := dk_46 (dk_at dksX8_hasSnapshot_6 16 rfl rfl)
theorem dX8_hasSnapshot_157 : decode cX8_hasSnapshot 157 = .ok (.invokevirtual 133, 3) := dk_182 0 133 (dk_at dksX8_hasSnapshot_6 17 rfl rfl)
theorem dX8_hasSnapshot_160 : decode cX8_hasSnapshot 160 = .ok (.aload_n 0, 1) := dk_42 (dk_at dksX8_hasSnapshot_6 20 rfl rfl)
theorem dX8_hasSnapshot_161 : decode cX8_hasSnapshot 161 = .ok (.iload_n 1, 1) := dk_27 (dk_at dksX8_hasSnapshot_6 21 rfl rfl)
theorem dX8_hasSnapshot_162 : decode cX8_hasSnapshot 162 = .ok (.bipush 9, 2) := dk_16 9 (dk_at dksX8_hasSnapshot_6 22 rfl rfl)
theorem dX8_hasSnapshot_164 : decode cX8_hasSnapshot 164 = .ok (.iload_n 2, 1) := dk_28 (dk_at dksX8_hasSnapshot_7 0 rfl rfl)
theorem dX8_hasSnapshot_165 : decode cX8_hasSnapshot 165 = .ok (.invokevirtual 133, 3) := dk_182 0 133 (dk_at dksX8_hasSnapshot_7 1 rfl rfl)
theorem dX8_hasSnapshot_168 : decode cX8_hasSnapshot 168 = .ok (.iconst 0, 1) := dk_3 (dk_at dksX8_hasSnapshot_7 4 rfl rfl)
theorem dX8_hasSnapshot_169 : decode cX8_hasSnapshot 169 = .ok (.istore_n 3, 1) := dk_62 (dk_at dksX8_hasSnapshot_7 5 rfl rfl)
theorem dX8_hasSnapshot_170 : decode cX8_hasSnapshot 170 = .ok (.iload_n 3, 1) := dk_29 (dk_at dksX8_hasSnapshot_7 6 rfl rfl)
theorem dX8_hasSnapshot_171 : decode cX8_hasSnapshot 171 = .ok (.bipush 8, 2) := dk_16 8 (dk_at dksX8_hasSnapshot_7 7 rfl rfl)
theorem dX8_hasSnapshot_173 : decode cX8_hasSnapshot 173 = .ok (.if_icmp .ge 45, 3) := dk_162 0 45 (dk_at dksX8_hasSnapshot_7 9 rfl rfl)
theorem dX8_hasSnapshot_176 : decode cX8_hasSnapshot 176 = .ok (.aload_n 0, 1) := dk_42 (dk_at dksX8_hasSnapshot_7 12 rfl rfl)
theorem dX8_hasSnapshot_177 : decode cX8_hasSnapshot 177 = .ok (.iload_n 1, 1) := dk_27 (dk_at dksX8_hasSnapshot_7 13 rfl rfl)
theorem dX8_hasSnapshot_178 : decode cX8_hasSnapshot 178 = .ok (.bipush 23, 2) := dk_16 23 (dk_at dksX8_hasSnapshot_7 14 rfl rfl)
theorem dX8_hasSnapshot_180 : decode cX8_hasSnapshot 180 = .ok (.iload_n 3, 1) := dk_29 (dk_at dksX8_hasSnapshot_7 16 rfl rfl)
theorem dX8_hasSnapshot_181 : decode cX8_hasSnapshot 181 = .ok (.iadd, 1) := dk_96 (dk_at dksX8_hasSnapshot_7 17 rfl rfl)
theorem dX8_hasSnapshot_182 : decode cX8_hasSnapshot 182 = .ok (.aload_n 0, 1) := dk_42 (dk_at dksX8_hasSnapshot_7 18 rfl rfl)
theorem dX8_hasSnapshot_183 : decode cX8_hasSnapshot 183 = .ok (.getfield 22, 3) := dk_180 0 22 (dk_at dksX8_hasSnapshot_7 19 rfl rfl)
theorem dX8_hasSnapshot_186 : decode cX8_hasSnapshot 186 = .ok (.bipush 11, 2) := dk_16 11 (dk_at dksX8_hasSnapshot_7 22 rfl rfl)
theorem dX8_hasSnapshot_188 : decode cX8_hasSnapshot 188 = .ok (.iload_n 3, 1) := dk_29 (dk_at dksX8_hasSnapshot_8 0 rfl rfl)
theorem dX8_hasSnapshot_189 : decode cX8_hasSnapshot 189 = .ok (.iadd, 1) := dk_96 (dk_at dksX8_hasSnapshot_8 1 rfl rfl)
theorem dX8_hasSnapshot_190 : decode cX8_hasSnapshot 190 = .ok (.iaload, 1) := dk_46 (dk_at dksX8_hasSnapshot_8 2 rfl rfl)
theorem dX8_hasSnapshot_191 : decode cX8_hasSnapshot 191 = .ok (.invokevirtual 133, 3) := dk_182 0 133 (dk_at dksX8_hasSnapshot_8 3 rfl rfl)
theorem dX8_hasSnapshot_194 : decode cX8_hasSnapshot 194 = .ok (.aload_n 0, 1) := dk_42 (dk_at dksX8_hasSnapshot_8 6 rfl rfl)
theorem dX8_hasSnapshot_195 : decode cX8_hasSnapshot 195 = .ok (.iload_n 1, 1) := dk_27 (dk_at dksX8_hasSnapshot_8 7 rfl rfl)
theorem dX8_hasSnapshot_196 : decode cX8_hasSnapshot 196 = .ok (.bipush 15, 2) := dk_16 15 (dk_at dksX8_hasSnapshot_8 8 rfl rfl)
theorem dX8_hasSnapshot_198 : decode cX8_hasSnapshot 198 = .ok (.iload_n 3, 1) := dk_29 (dk_at dksX8_hasSnapshot_8 10 rfl rfl)
theorem dX8_hasSnapshot_199 : decode cX8_hasSnapshot 199 = .ok (.iadd, 1) := dk_96 (dk_at dksX8_hasSnapshot_8 11 rfl rfl)
theorem dX8_hasSnapshot_200 : decode cX8_hasSnapshot 200 = .ok (.aload_n 0, 1) := dk_42 (dk_at dksX8_hasSnapshot_8 12 rfl rfl)
theorem dX8_hasSnapshot_201 : decode cX8_hasSnapshot 201 = .ok (.getfield 22, 3) := dk_180 0 22 (dk_at dksX8_hasSnapshot_8 13 rfl rfl)
theorem dX8_hasSnapshot_204 : decode cX8_hasSnapshot 204 = .ok (.bipush 11, 2) := dk_16 11 (dk_at dksX8_hasSnapshot_8 16 rfl rfl)
theorem dX8_hasSnapshot_206 : decode cX8_hasSnapshot 206 = .ok (.iload_n 3, 1) := dk_29 (dk_at dksX8_hasSnapshot_8 18 rfl rfl)
theorem dX8_hasSnapshot_207 : decode cX8_hasSnapshot 207 = .ok (.iadd, 1) := dk_96 (dk_at dksX8_hasSnapshot_8 19 rfl rfl)
theorem dX8_hasSnapshot_208 : decode cX8_hasSnapshot 208 = .ok (.iaload, 1) := dk_46 (dk_at dksX8_hasSnapshot_8 20 rfl rfl)
theorem dX8_hasSnapshot_209 : decode cX8_hasSnapshot 209 = .ok (.invokevirtual 133, 3) := dk_182 0 133 (dk_at dksX8_hasSnapshot_8 21 rfl rfl)
theorem dX8_hasSnapshot_212 : decode cX8_hasSnapshot 212 = .ok (.iinc 3 1, 3) := dk_132 3 1 (dk_at dksX8_hasSnapshot_9 0 rfl rfl)
theorem dX8_hasSnapshot_215 : decode cX8_hasSnapshot 215 = .ok (.goto (-45), 3) := dk_167 255 211 (dk_at dksX8_hasSnapshot_9 3 rfl rfl)
theorem dX8_hasSnapshot_218 : decode cX8_hasSnapshot 218 = .ok (.aload_n 0, 1) := dk_42 (dk_at dksX8_hasSnapshot_9 6 rfl rfl)
theorem dX8_hasSnapshot_219 : decode cX8_hasSnapshot 219 = .ok (.iconst 5, 1) := dk_8 (dk_at dksX8_hasSnapshot_9 7 rfl rfl)
theorem dX8_hasSnapshot_220 : decode cX8_hasSnapshot 220 = .ok (.iload_n 2, 1) := dk_28 (dk_at dksX8_hasSnapshot_9 8 rfl rfl)
theorem dX8_hasSnapshot_221 : decode cX8_hasSnapshot 221 = .ok (.iconst 0, 1) := dk_3 (dk_at dksX8_hasSnapshot_9 9 rfl rfl)
theorem dX8_hasSnapshot_222 : decode cX8_hasSnapshot 222 = .ok (.aload_n 0, 1) := dk_42 (dk_at dksX8_hasSnapshot_9 10 rfl rfl)
theorem dX8_hasSnapshot_223 : decode cX8_hasSnapshot 223 = .ok (.getfield 22, 3) := dk_180 0 22 (dk_at dksX8_hasSnapshot_9 11 rfl rfl)
theorem dX8_hasSnapshot_226 : decode cX8_hasSnapshot 226 = .ok (.bipush 10, 2) := dk_16 10 (dk_at dksX8_hasSnapshot_9 14 rfl rfl)
theorem dX8_hasSnapshot_228 : decode cX8_hasSnapshot 228 = .ok (.iaload, 1) := dk_46 (dk_at dksX8_hasSnapshot_9 16 rfl rfl)
theorem dX8_hasSnapshot_229 : decode cX8_hasSnapshot 229 = .ok (.invokevirtual 371, 3) := dk_182 1 115 (dk_at dksX8_hasSnapshot_9 17 rfl rfl)
theorem dX8_hasSnapshot_232 : decode cX8_hasSnapshot 232 = .ok (.return_, 1) := dk_177 (dk_at dksX8_hasSnapshot_9 20 rfl rfl)
abbrev cX8_hearsOfSnapshot : ByteArray := prog_18_method_91_code
def yX8_hearsOfSnapshot : MethodName := ⟨RX8, "hearsOfSnapshot", "(I)V"⟩
def dkwX8_hearsOfSnapshot_1 : List UInt8 := [182, 1, 131, 177]
abbrev dktX8_hearsOfSnapshot_1 : List UInt8 := dkwX8_hearsOfSnapshot_1 ++ []
def dkwX8_hearsOfSnapshot_0 : List UInt8 := [42, 27, 182, 1, 125, 154, 0, 4, 177, 42, 27, 42, 180, 0, 22, 16, 6, 46, 182, 1, 128, 42, 27]
abbrev dktX8_hearsOfSnapshot_0 : List UInt8 := dkwX8_hearsOfSnapshot_0 ++ dktX8_hearsOfSnapshot_1
theorem dksX8_hearsOfSnapshot_0 : cX8_hearsOfSnapshot.data.toList.drop 0 = dktX8_hearsOfSnapshot_0 := by decide +kernel
theorem dksX8_hearsOfSnapshot_1 : cX8_hearsOfSnapshot.data.toList.drop 23 = dktX8_hearsOfSnapshot_1 := dk_seg dksX8_hearsOfSnapshot_0 23 rfl rfl
theorem dX8_hearsOfSnapshot_0 : decode cX8_hearsOfSnapshot 0 = .ok (.aload_n 0, 1) := dk_42 (dk_at dksX8_hearsOfSnapshot_0 0 rfl rfl)
theorem dX8_hearsOfSnapshot_1 : decode cX8_hearsOfSnapshot 1 = .ok (.iload_n 1, 1) := dk_27 (dk_at dksX8_hearsOfSnapshot_0 1 rfl rfl)
theorem dX8_hearsOfSnapshot_2 : decode cX8_hearsOfSnapshot 2 = .ok (.invokevirtual 381, 3) := dk_182 1 125 (dk_at dksX8_hearsOfSnapshot_0 2 rfl rfl)
theorem dX8_hearsOfSnapshot_5 : decode cX8_hearsOfSnapshot 5 = .ok (.ifCond .ne 4, 3) := dk_154 0 4 (dk_at dksX8_hearsOfSnapshot_0 5 rfl rfl)
theorem dX8_hearsOfSnapshot_8 : decode cX8_hearsOfSnapshot 8 = .ok (.return_, 1) := dk_177 (dk_at dksX8_hearsOfSnapshot_0 8 rfl rfl)
theorem dX8_hearsOfSnapshot_9 : decode cX8_hearsOfSnapshot 9 = .ok (.aload_n 0, 1) := dk_42 (dk_at dksX8_hearsOfSnapshot_0 9 rfl rfl)
theorem dX8_hearsOfSnapshot_10 : decode cX8_hearsOfSnapshot 10 = .ok (.iload_n 1, 1) := dk_27 (dk_at dksX8_hearsOfSnapshot_0 10 rfl rfl)
theorem dX8_hearsOfSnapshot_11 : decode cX8_hearsOfSnapshot 11 = .ok (.aload_n 0, 1) := dk_42 (dk_at dksX8_hearsOfSnapshot_0 11 rfl rfl)
theorem dX8_hearsOfSnapshot_12 : decode cX8_hearsOfSnapshot 12 = .ok (.getfield 22, 3) := dk_180 0 22 (dk_at dksX8_hearsOfSnapshot_0 12 rfl rfl)
theorem dX8_hearsOfSnapshot_15 : decode cX8_hearsOfSnapshot 15 = .ok (.bipush 6, 2) := dk_16 6 (dk_at dksX8_hearsOfSnapshot_0 15 rfl rfl)
theorem dX8_hearsOfSnapshot_17 : decode cX8_hearsOfSnapshot 17 = .ok (.iaload, 1) := dk_46 (dk_at dksX8_hearsOfSnapshot_0 17 rfl rfl)
theorem dX8_hearsOfSnapshot_18 : decode cX8_hearsOfSnapshot 18 = .ok (.invokevirtual 384, 3) := dk_182 1 128 (dk_at dksX8_hearsOfSnapshot_0 18 rfl rfl)
theorem dX8_hearsOfSnapshot_21 : decode cX8_hearsOfSnapshot 21 = .ok (.aload_n 0, 1) := dk_42 (dk_at dksX8_hearsOfSnapshot_0 21 rfl rfl)
theorem dX8_hearsOfSnapshot_22 : decode cX8_hearsOfSnapshot 22 = .ok (.iload_n 1, 1) := dk_27 (dk_at dksX8_hearsOfSnapshot_0 22 rfl rfl)
theorem dX8_hearsOfSnapshot_23 : decode cX8_hearsOfSnapshot 23 = .ok (.invokevirtual 387, 3) := dk_182 1 131 (dk_at dksX8_hearsOfSnapshot_1 0 rfl rfl)
theorem dX8_hearsOfSnapshot_26 : decode cX8_hearsOfSnapshot 26 = .ok (.return_, 1) := dk_177 (dk_at dksX8_hearsOfSnapshot_1 3 rfl rfl)
abbrev cX8_nodeGoes : ByteArray := prog_18_method_93_code
def yX8_nodeGoes : MethodName := ⟨RX8, "nodeGoes", "(I)V"⟩
def dkwX8_nodeGoes_3 : List UInt8 := [27, 182, 1, 146, 177]
abbrev dktX8_nodeGoes_3 : List UInt8 := dkwX8_nodeGoes_3 ++ []
def dkwX8_nodeGoes_2 : List UInt8 := [27, 16, 14, 182, 0, 101, 4, 96, 182, 0, 133, 42, 27, 16, 14, 182, 0, 101, 6, 162, 0, 4, 177, 42]
abbrev dktX8_nodeGoes_2 : List UInt8 := dkwX8_nodeGoes_2 ++ dktX8_nodeGoes_3
def dkwX8_nodeGoes_1 : List UInt8 := [182, 0, 133, 42, 27, 16, 10, 182, 0, 101, 154, 0, 8, 42, 27, 182, 1, 143, 177, 42, 27, 16, 14, 42]
abbrev dktX8_nodeGoes_1 : List UInt8 := dkwX8_nodeGoes_1 ++ dktX8_nodeGoes_2
def dkwX8_nodeGoes_0 : List UInt8 := [42, 27, 6, 182, 0, 101, 5, 159, 0, 35, 42, 27, 16, 10, 42, 27, 16, 10, 182, 0, 101, 4, 100]
abbrev dktX8_nodeGoes_0 : List UInt8 := dkwX8_nodeGoes_0 ++ dktX8_nodeGoes_1
theorem dksX8_nodeGoes_0 : cX8_nodeGoes.data.toList.drop 0 = dktX8_nodeGoes_0 := by decide +kernel
theorem dksX8_nodeGoes_1 : cX8_nodeGoes.data.toList.drop 23 = dktX8_nodeGoes_1 := dk_seg dksX8_nodeGoes_0 23 rfl rfl
theorem dksX8_nodeGoes_2 : cX8_nodeGoes.data.toList.drop 47 = dktX8_nodeGoes_2 := dk_seg dksX8_nodeGoes_1 24 rfl rfl
theorem dksX8_nodeGoes_3 : cX8_nodeGoes.data.toList.drop 71 = dktX8_nodeGoes_3 := dk_seg dksX8_nodeGoes_2 24 rfl rfl
theorem dX8_nodeGoes_0 : decode cX8_nodeGoes 0 = .ok (.aload_n 0, 1) := dk_42 (dk_at dksX8_nodeGoes_0 0 rfl rfl)
theorem dX8_nodeGoes_1 : decode cX8_nodeGoes 1 = .ok (.iload_n 1, 1) := dk_27 (dk_at dksX8_nodeGoes_0 1 rfl rfl)
theorem dX8_nodeGoes_2 : decode cX8_nodeGoes 2 = .ok (.iconst 3, 1) := dk_6 (dk_at dksX8_nodeGoes_0 2 rfl rfl)
theorem dX8_nodeGoes_3 : decode cX8_nodeGoes 3 = .ok (.invokevirtual 101, 3) := dk_182 0 101 (dk_at dksX8_nodeGoes_0 3 rfl rfl)
theorem dX8_nodeGoes_6 : decode cX8_nodeGoes 6 = .ok (.iconst 2, 1) := dk_5 (dk_at dksX8_nodeGoes_0 6 rfl rfl)
theorem dX8_nodeGoes_7 : decode cX8_nodeGoes 7 = .ok (.if_icmp .eq 35, 3) := dk_159 0 35 (dk_at dksX8_nodeGoes_0 7 rfl rfl)
theorem dX8_nodeGoes_10 : decode cX8_nodeGoes 10 = .ok (.aload_n 0, 1) := dk_42 (dk_at dksX8_nodeGoes_0 10 rfl rfl)
theorem dX8_nodeGoes_11 : decode cX8_nodeGoes 11 = .ok (.iload_n 1, 1) := dk_27 (dk_at dksX8_nodeGoes_0 11 rfl rfl)
theorem dX8_nodeGoes_12 : decode cX8_nodeGoes 12 = .ok (.bipush 10, 2) := dk_16 10 (dk_at dksX8_nodeGoes_0 12 rfl rfl)
theorem dX8_nodeGoes_14 : decode cX8_nodeGoes 14 = .ok (.aload_n 0, 1) := dk_42 (dk_at dksX8_nodeGoes_0 14 rfl rfl)
theorem dX8_nodeGoes_15 : decode cX8_nodeGoes 15 = .ok (.iload_n 1, 1) := dk_27 (dk_at dksX8_nodeGoes_0 15 rfl rfl)
theorem dX8_nodeGoes_16 : decode cX8_nodeGoes 16 = .ok (.bipush 10, 2) := dk_16 10 (dk_at dksX8_nodeGoes_0 16 rfl rfl)
theorem dX8_nodeGoes_18 : decode cX8_nodeGoes 18 = .ok (.invokevirtual 101, 3) := dk_182 0 101 (dk_at dksX8_nodeGoes_0 18 rfl rfl)
theorem dX8_nodeGoes_21 : decode cX8_nodeGoes 21 = .ok (.iconst 1, 1) := dk_4 (dk_at dksX8_nodeGoes_0 21 rfl rfl)
theorem dX8_nodeGoes_22 : decode cX8_nodeGoes 22 = .ok (.isub, 1) := dk_100 (dk_at dksX8_nodeGoes_0 22 rfl rfl)
theorem dX8_nodeGoes_23 : decode cX8_nodeGoes 23 = .ok (.invokevirtual 133, 3) := dk_182 0 133 (dk_at dksX8_nodeGoes_1 0 rfl rfl)
theorem dX8_nodeGoes_26 : decode cX8_nodeGoes 26 = .ok (.aload_n 0, 1) := dk_42 (dk_at dksX8_nodeGoes_1 3 rfl rfl)
theorem dX8_nodeGoes_27 : decode cX8_nodeGoes 27 = .ok (.iload_n 1, 1) := dk_27 (dk_at dksX8_nodeGoes_1 4 rfl rfl)
theorem dX8_nodeGoes_28 : decode cX8_nodeGoes 28 = .ok (.bipush 10, 2) := dk_16 10 (dk_at dksX8_nodeGoes_1 5 rfl rfl)
theorem dX8_nodeGoes_30 : decode cX8_nodeGoes 30 = .ok (.invokevirtual 101, 3) := dk_182 0 101 (dk_at dksX8_nodeGoes_1 7 rfl rfl)
theorem dX8_nodeGoes_33 : decode cX8_nodeGoes 33 = .ok (.ifCond .ne 8, 3) := dk_154 0 8 (dk_at dksX8_nodeGoes_1 10 rfl rfl)
theorem dX8_nodeGoes_36 : decode cX8_nodeGoes 36 = .ok (.aload_n 0, 1) := dk_42 (dk_at dksX8_nodeGoes_1 13 rfl rfl)
theorem dX8_nodeGoes_37 : decode cX8_nodeGoes 37 = .ok (.iload_n 1, 1) := dk_27 (dk_at dksX8_nodeGoes_1 14 rfl rfl)
theorem dX8_nodeGoes_38 : decode cX8_nodeGoes 38 = .ok (.invokevirtual 399, 3) := dk_182 1 143 (dk_at dksX8_nodeGoes_1 15 rfl rfl)
theorem dX8_nodeGoes_41 : decode cX8_nodeGoes 41 = .ok (.return_, 1) := dk_177 (dk_at dksX8_nodeGoes_1 18 rfl rfl)
theorem dX8_nodeGoes_42 : decode cX8_nodeGoes 42 = .ok (.aload_n 0, 1) := dk_42 (dk_at dksX8_nodeGoes_1 19 rfl rfl)
theorem dX8_nodeGoes_43 : decode cX8_nodeGoes 43 = .ok (.iload_n 1, 1) := dk_27 (dk_at dksX8_nodeGoes_1 20 rfl rfl)
theorem dX8_nodeGoes_44 : decode cX8_nodeGoes 44 = .ok (.bipush 14, 2) := dk_16 14 (dk_at dksX8_nodeGoes_1 21 rfl rfl)
theorem dX8_nodeGoes_46 : decode cX8_nodeGoes 46 = .ok (.aload_n 0, 1) := dk_42 (dk_at dksX8_nodeGoes_1 23 rfl rfl)
theorem dX8_nodeGoes_47 : decode cX8_nodeGoes 47 = .ok (.iload_n 1, 1) := dk_27 (dk_at dksX8_nodeGoes_2 0 rfl rfl)
theorem dX8_nodeGoes_48 : decode cX8_nodeGoes 48 = .ok (.bipush 14, 2) := dk_16 14 (dk_at dksX8_nodeGoes_2 1 rfl rfl)
theorem dX8_nodeGoes_50 : decode cX8_nodeGoes 50 = .ok (.invokevirtual 101, 3) := dk_182 0 101 (dk_at dksX8_nodeGoes_2 3 rfl rfl)
theorem dX8_nodeGoes_53 : decode cX8_nodeGoes 53 = .ok (.iconst 1, 1) := dk_4 (dk_at dksX8_nodeGoes_2 6 rfl rfl)
theorem dX8_nodeGoes_54 : decode cX8_nodeGoes 54 = .ok (.iadd, 1) := dk_96 (dk_at dksX8_nodeGoes_2 7 rfl rfl)
theorem dX8_nodeGoes_55 : decode cX8_nodeGoes 55 = .ok (.invokevirtual 133, 3) := dk_182 0 133 (dk_at dksX8_nodeGoes_2 8 rfl rfl)
theorem dX8_nodeGoes_58 : decode cX8_nodeGoes 58 = .ok (.aload_n 0, 1) := dk_42 (dk_at dksX8_nodeGoes_2 11 rfl rfl)
theorem dX8_nodeGoes_59 : decode cX8_nodeGoes 59 = .ok (.iload_n 1, 1) := dk_27 (dk_at dksX8_nodeGoes_2 12 rfl rfl)
theorem dX8_nodeGoes_60 : decode cX8_nodeGoes 60 = .ok (.bipush 14, 2) := dk_16 14 (dk_at dksX8_nodeGoes_2 13 rfl rfl)
theorem dX8_nodeGoes_62 : decode cX8_nodeGoes 62 = .ok (.invokevirtual 101, 3) := dk_182 0 101 (dk_at dksX8_nodeGoes_2 15 rfl rfl)
theorem dX8_nodeGoes_65 : decode cX8_nodeGoes 65 = .ok (.iconst 3, 1) := dk_6 (dk_at dksX8_nodeGoes_2 18 rfl rfl)
theorem dX8_nodeGoes_66 : decode cX8_nodeGoes 66 = .ok (.if_icmp .ge 4, 3) := dk_162 0 4 (dk_at dksX8_nodeGoes_2 19 rfl rfl)
theorem dX8_nodeGoes_69 : decode cX8_nodeGoes 69 = .ok (.return_, 1) := dk_177 (dk_at dksX8_nodeGoes_2 22 rfl rfl)
theorem dX8_nodeGoes_70 : decode cX8_nodeGoes 70 = .ok (.aload_n 0, 1) := dk_42 (dk_at dksX8_nodeGoes_2 23 rfl rfl)
theorem dX8_nodeGoes_71 : decode cX8_nodeGoes 71 = .ok (.iload_n 1, 1) := dk_27 (dk_at dksX8_nodeGoes_3 0 rfl rfl)
theorem dX8_nodeGoes_72 : decode cX8_nodeGoes 72 = .ok (.invokevirtual 402, 3) := dk_182 1 146 (dk_at dksX8_nodeGoes_3 1 rfl rfl)
theorem dX8_nodeGoes_75 : decode cX8_nodeGoes 75 = .ok (.return_, 1) := dk_177 (dk_at dksX8_nodeGoes_3 4 rfl rfl)
abbrev cX8_stands : ByteArray := prog_18_method_67_code
def yX8_stands : MethodName := ⟨RX8, "stands", "(I)V"⟩
def dkwX8_stands_7 : List UInt8 := [182, 1, 18, 132, 2, 1, 167, 255, 187, 177]
abbrev dktX8_stands_7 : List UInt8 := dkwX8_stands_7 ++ []
def dkwX8_stands_6 : List UInt8 := [27, 182, 0, 108, 79, 42, 180, 0, 19, 16, 7, 42, 27, 42, 27, 182, 0, 108, 182, 0, 137, 79, 42]
abbrev dktX8_stands_6 : List UInt8 := dkwX8_stands_6 ++ dktX8_stands_7
def dkwX8_stands_5 : List UInt8 := [28, 184, 1, 30, 154, 0, 6, 167, 0, 43, 42, 27, 28, 3, 182, 1, 15, 42, 180, 0, 19, 16, 6, 42]
abbrev dktX8_stands_5 : List UInt8 := dkwX8_stands_5 ++ dktX8_stands_6
def dkwX8_stands_4 : List UInt8 := [42, 27, 182, 1, 45, 177, 3, 61, 28, 16, 7, 162, 0, 69, 28, 27, 159, 0, 58, 42, 27, 182, 1, 27]
abbrev dktX8_stands_4 : List UInt8 := dkwX8_stands_4 ++ dktX8_stands_5
def dkwX8_stands_3 : List UInt8 := [2, 182, 0, 133, 42, 27, 182, 1, 39, 42, 27, 42, 27, 16, 12, 182, 0, 101, 182, 1, 42, 153, 0, 9]
abbrev dktX8_stands_3 : List UInt8 := dkwX8_stands_3 ++ dktX8_stands_4
def dkwX8_stands_2 : List UInt8 := [182, 0, 133, 42, 27, 5, 27, 182, 0, 133, 42, 27, 16, 12, 4, 27, 120, 182, 0, 133, 42, 27, 16, 11]
abbrev dktX8_stands_2 : List UInt8 := dkwX8_stands_2 ++ dktX8_stands_3
def dkwX8_stands_1 : List UInt8 := [42, 27, 182, 1, 39, 177, 42, 27, 4, 42, 27, 4, 182, 0, 101, 4, 96, 182, 0, 133, 42, 27, 6, 4]
abbrev dktX8_stands_1 : List UInt8 := dkwX8_stands_1 ++ dktX8_stands_2
def dkwX8_stands_0 : List UInt8 := [42, 27, 182, 1, 27, 27, 184, 1, 30, 153, 0, 15, 42, 27, 4, 182, 0, 101, 17, 3, 231, 160, 0, 9]
abbrev dktX8_stands_0 : List UInt8 := dkwX8_stands_0 ++ dktX8_stands_1
theorem dksX8_stands_0 : cX8_stands.data.toList.drop 0 = dktX8_stands_0 := by decide +kernel
theorem dksX8_stands_1 : cX8_stands.data.toList.drop 24 = dktX8_stands_1 := dk_seg dksX8_stands_0 24 rfl rfl
theorem dksX8_stands_2 : cX8_stands.data.toList.drop 48 = dktX8_stands_2 := dk_seg dksX8_stands_1 24 rfl rfl
theorem dksX8_stands_3 : cX8_stands.data.toList.drop 72 = dktX8_stands_3 := dk_seg dksX8_stands_2 24 rfl rfl
theorem dksX8_stands_4 : cX8_stands.data.toList.drop 96 = dktX8_stands_4 := dk_seg dksX8_stands_3 24 rfl rfl
theorem dksX8_stands_5 : cX8_stands.data.toList.drop 120 = dktX8_stands_5 := dk_seg dksX8_stands_4 24 rfl rfl
theorem dksX8_stands_6 : cX8_stands.data.toList.drop 144 = dktX8_stands_6 := dk_seg dksX8_stands_5 24 rfl rfl
theorem dksX8_stands_7 : cX8_stands.data.toList.drop 167 = dktX8_stands_7 := dk_seg dksX8_stands_6 23 rfl rfl
theorem dX8_stands_0 : decode cX8_stands 0 = .ok (.aload_n 0, 1) := dk_42 (dk_at dksX8_stands_0 0 rfl rfl)
theorem dX8_stands_1 : decode cX8_stands 1 = .ok (.iload_n 1, 1) := dk_27 (dk_at dksX8_stands_0 1 rfl rfl)
theorem dX8_stands_2 : decode cX8_stands 2 = .ok (.invokevirtual 283, 3) := dk_182 1 27 (dk_at dksX8_stands_0 2 rfl rfl)
theorem dX8_stands_5 : decode cX8_stands 5 = .ok (.iload_n 1, 1) := dk_27 (dk_at dksX8_stands_0 5 rfl rfl)
theorem dX8_stands_6 : decode cX8_stands 6 = .ok (.invokestatic 286, 3) := dk_184 1 30 (dk_at dksX8_stands_0 6 rfl rfl)
theorem dX8_stands_9 : decode cX8_stands 9 = .ok (.ifCond .eq 15, 3) := dk_153 0 15 (dk_at dksX8_stands_0 9 rfl rfl)
theorem dX8_stands_12 : decode cX8_stands 12 = .ok (.aload_n 0, 1) := dk_42 (dk_at dksX8_stands_0 12 rfl rfl)
theorem dX8_stands_13 : decode cX8_stands 13 = .ok (.iload_n 1, 1) := dk_27 (dk_at dksX8_stands_0 13 rfl rfl)
theorem dX8_stands_14 : decode cX8_stands 14 = .ok (.iconst 1, 1) := dk_4 (dk_at dksX8_stands_0 14 rfl rfl)
theorem dX8_stands_15 : decode cX8_stands 15 = .ok (.invokevirtual 101, 3) := dk_182 0 101 (dk_at dksX8_stands_0 15 rfl rfl)
theorem dX8_stands_18 : decode cX8_stands 18 = .ok (.sipush 999, 3) := dk_17 3 231 (dk_at dksX8_stands_0 18 rfl rfl)
theorem dX8_stands_21 : decode cX8_stands 21 = .ok (.if_icmp .ne 9, 3) := dk_160 0 9 (dk_at dksX8_stands_0 21 rfl rfl)
theorem dX8_stands_24 : decode cX8_stands 24 = .ok (.aload_n 0, 1) := dk_42 (dk_at dksX8_stands_1 0 rfl rfl)
theorem dX8_stands_25 : decode cX8_stands 25 = .ok (.iload_n 1, 1) := dk_27 (dk_at dksX8_stands_1 1 rfl rfl)
theorem dX8_stands_26 : decode cX8_stands 26 = .ok (.invokevirtual 295, 3) := dk_182 1 39 (dk_at dksX8_stands_1 2 rfl rfl)
theorem dX8_stands_29 : decode cX8_stands 29 = .ok (.return_, 1) := dk_177 (dk_at dksX8_stands_1 5 rfl rfl)
theorem dX8_stands_30 : decode cX8_stands 30 = .ok (.aload_n 0, 1) := dk_42 (dk_at dksX8_stands_1 6 rfl rfl)
theorem dX8_stands_31 : decode cX8_stands 31 = .ok (.iload_n 1, 1) := dk_27 (dk_at dksX8_stands_1 7 rfl rfl)
theorem dX8_stands_32 : decode cX8_stands 32 = .ok (.iconst 1, 1) := dk_4 (dk_at dksX8_stands_1 8 rfl rfl)
theorem dX8_stands_33 : decode cX8_stands 33 = .ok (.aload_n 0, 1) := dk_42 (dk_at dksX8_stands_1 9 rfl rfl)
theorem dX8_stands_34 : decode cX8_stands 34 = .ok (.iload_n 1, 1) := dk_27 (dk_at dksX8_stands_1 10 rfl rfl)
theorem dX8_stands_35 : decode cX8_stands 35 = .ok (.iconst 1, 1) := dk_4 (dk_at dksX8_stands_1 11 rfl rfl)
theorem dX8_stands_36 : decode cX8_stands 36 = .ok (.invokevirtual 101, 3) := dk_182 0 101 (dk_at dksX8_stands_1 12 rfl rfl)
theorem dX8_stands_39 : decode cX8_stands 39 = .ok (.iconst 1, 1) := dk_4 (dk_at dksX8_stands_1 15 rfl rfl)
theorem dX8_stands_40 : decode cX8_stands 40 = .ok (.iadd, 1) := dk_96 (dk_at dksX8_stands_1 16 rfl rfl)
theorem dX8_stands_41 : decode cX8_stands 41 = .ok (.invokevirtual 133, 3) := dk_182 0 133 (dk_at dksX8_stands_1 17 rfl rfl)
theorem dX8_stands_44 : decode cX8_stands 44 = .ok (.aload_n 0, 1) := dk_42 (dk_at dksX8_stands_1 20 rfl rfl)
theorem dX8_stands_45 : decode cX8_stands 45 = .ok (.iload_n 1, 1) := dk_27 (dk_at dksX8_stands_1 21 rfl rfl)
theorem dX8_stands_46 : decode cX8_stands 46 = .ok (.iconst 3, 1) := dk_6 (dk_at dksX8_stands_1 22 rfl rfl)
theorem dX8_stands_47 : decode cX8_stands 47 = .ok (.iconst 1, 1) := dk_4 (dk_at dksX8_stands_1 23 rfl rfl)
theorem dX8_stands_48 : decode cX8_stands 48 = .ok (.invokevirtual 133, 3) := dk_182 0 133 (dk_at dksX8_stands_2 0 rfl rfl)
theorem dX8_stands_51 : decode cX8_stands 51 = .ok (.aload_n 0, 1) := dk_42 (dk_at dksX8_stands_2 3 rfl rfl)
theorem dX8_stands_52 : decode cX8_stands 52 = .ok (.iload_n 1, 1) := dk_27 (dk_at dksX8_stands_2 4 rfl rfl)
theorem dX8_stands_53 : decode cX8_stands 53 = .ok (.iconst 2, 1) := dk_5 (dk_at dksX8_stands_2 5 rfl rfl)
theorem dX8_stands_54 : decode cX8_stands 54 = .ok (.iload_n 1, 1) := dk_27 (dk_at dksX8_stands_2 6 rfl rfl)
theorem dX8_stands_55 : decode cX8_stands 55 = .ok (.invokevirtual 133, 3) := dk_182 0 133 (dk_at dksX8_stands_2 7 rfl rfl)
theorem dX8_stands_58 : decode cX8_stands 58 = .ok (.aload_n 0, 1) := dk_42 (dk_at dksX8_stands_2 10 rfl rfl)
theorem dX8_stands_59 : decode cX8_stands 59 = .ok (.iload_n 1, 1) := dk_27 (dk_at dksX8_stands_2 11 rfl rfl)
theorem dX8_stands_60 : decode cX8_stands 60 = .ok (.bipush 12, 2) := dk_16 12 (dk_at dksX8_stands_2 12 rfl rfl)
theorem dX8_stands_62 : decode cX8_stands 62 = .ok (.iconst 1, 1) := dk_4 (dk_at dksX8_stands_2 14 rfl rfl)
theorem dX8_stands_63 : decode cX8_stands 63 = .ok (.iload_n 1, 1) := dk_27 (dk_at dksX8_stands_2 15 rfl rfl)
theorem dX8_stands_64 : decode cX8_stands 64 = .ok (.ishl, 1) := dk_120 (dk_at dksX8_stands_2 16 rfl rfl)
theorem dX8_stands_65 : decode cX8_stands 65 = .ok (.invokevirtual 133, 3) := dk_182 0 133 (dk_at dksX8_stands_2 17 rfl rfl)
theorem dX8_stands_68 : decode cX8_stands 68 = .ok (.aload_n 0, 1) := dk_42 (dk_at dksX8_stands_2 20 rfl rfl)
theorem dX8_stands_69 : decode cX8_stands 69 = .ok (.iload_n 1, 1) := dk_27 (dk_at dksX8_stands_2 21 rfl rfl)
theorem dX8_stands_70 : decode cX8_stands 70 = .ok (.bipush 11, 2) := dk_16 11 (dk_at dksX8_stands_2 22 rfl rfl)
theorem dX8_stands_72 : decode cX8_stands 72 = .ok (.iconst (-1), 1) := dk_2 (dk_at dksX8_stands_3 0 rfl rfl)
theorem dX8_stands_73 : decode cX8_stands 73 = .ok (.invokevirtual 133, 3) := dk_182 0 133 (dk_at dksX8_stands_3 1 rfl rfl)
theorem dX8_stands_76 : decode cX8_stands 76 = .ok (.aload_n 0, 1) := dk_42 (dk_at dksX8_stands_3 4 rfl rfl)
theorem dX8_stands_77 : decode cX8_stands 77 = .ok (.iload_n 1, 1) := dk_27 (dk_at dksX8_stands_3 5 rfl rfl)
theorem dX8_stands_78 : decode cX8_stands 78 = .ok (.invokevirtual 295, 3) := dk_182 1 39 (dk_at dksX8_stands_3 6 rfl rfl)
theorem dX8_stands_81 : decode cX8_stands 81 = .ok (.aload_n 0, 1) := dk_42 (dk_at dksX8_stands_3 9 rfl rfl)
theorem dX8_stands_82 : decode cX8_stands 82 = .ok (.iload_n 1, 1) := dk_27 (dk_at dksX8_stands_3 10 rfl rfl)
theorem dX8_stands_83 : decode cX8_stands 83 = .ok (.aload_n 0, 1) := dk_42 (dk_at dksX8_stands_3 11 rfl rfl)
theorem dX8_stands_84 : decode cX8_stands 84 = .ok (.iload_n 1, 1) := dk_27 (dk_at dksX8_stands_3 12 rfl rfl)
theorem dX8_stands_85 : decode cX8_stands 85 = .ok (.bipush 12, 2) := dk_16 12 (dk_at dksX8_stands_3 13 rfl rfl)
theorem dX8_stands_87 : decode cX8_stands 87 = .ok (.invokevirtual 101, 3) := dk_182 0 101 (dk_at dksX8_stands_3 15 rfl rfl)
theorem dX8_stands_90 : decode cX8_stands 90 = .ok (.invokevirtual 298, 3) := dk_182 1 42 (dk_at dksX8_stands_3 18 rfl rfl)
theorem dX8_stands_93 : decode cX8_stands 93 = .ok (.ifCond .eq 9, 3) := dk_153 0 9 (dk_at dksX8_stands_3 21 rfl rfl)
theorem dX8_stands_96 : decode cX8_stands 96 = .ok (.aload_n 0, 1) := dk_42 (dk_at dksX8_stands_4 0 rfl rfl)
theorem dX8_stands_97 : decode cX8_stands 97 = .ok (.iload_n 1, 1) := dk_27 (dk_at dksX8_stands_4 1 rfl rfl)
theorem dX8_stands_98 : decode cX8_stands 98 = .ok (.invokevirtual 301, 3) := dk_182 1 45 (dk_at dksX8_stands_4 2 rfl rfl)
theorem dX8_stands_101 : decode cX8_stands 101 = .ok (.return_, 1) := dk_177 (dk_at dksX8_stands_4 5 rfl rfl)
theorem dX8_stands_102 : decode cX8_stands 102 = .ok (.iconst 0, 1) := dk_3 (dk_at dksX8_stands_4 6 rfl rfl)
theorem dX8_stands_103 : decode cX8_stands 103 = .ok (.istore_n 2, 1) := dk_61 (dk_at dksX8_stands_4 7 rfl rfl)
theorem dX8_stands_104 : decode cX8_stands 104 = .ok (.iload_n 2, 1) := dk_28 (dk_at dksX8_stands_4 8 rfl rfl)
theorem dX8_stands_105 : decode cX8_stands 105 = .ok (.bipush 7, 2) := dk_16 7 (dk_at dksX8_stands_4 9 rfl rfl)
theorem dX8_stands_107 : decode cX8_stands 107 = .ok (.if_icmp .ge 69, 3) := dk_162 0 69 (dk_at dksX8_stands_4 11 rfl rfl)
theorem dX8_stands_110 : decode cX8_stands 110 = .ok (.iload_n 2, 1) := dk_28 (dk_at dksX8_stands_4 14 rfl rfl)
theorem dX8_stands_111 : decode cX8_stands 111 = .ok (.iload_n 1, 1) := dk_27 (dk_at dksX8_stands_4 15 rfl rfl)
theorem dX8_stands_112 : decode cX8_stands 112 = .ok (.if_icmp .eq 58, 3) := dk_159 0 58 (dk_at dksX8_stands_4 16 rfl rfl)
theorem dX8_stands_115 : decode cX8_stands 115 = .ok (.aload_n 0, 1) := dk_42 (dk_at dksX8_stands_4 19 rfl rfl)
theorem dX8_stands_116 : decode cX8_stands 116 = .ok (.iload_n 1, 1) := dk_27 (dk_at dksX8_stands_4 20 rfl rfl)
theorem dX8_stands_117 : decode cX8_stands 117 = .ok (.invokevirtual 283, 3) := dk_182 1 27 (dk_at dksX8_stands_4 21 rfl rfl)
theorem dX8_stands_120 : decode cX8_stands 120 = .ok (.iload_n 2, 1) := dk_28 (dk_at dksX8_stands_5 0 rfl rfl)
theorem dX8_stands_121 : decode cX8_stands 121 = .ok (.invokestatic 286, 3) := dk_184 1 30 (dk_at dksX8_stands_5 1 rfl rfl)
theorem dX8_stands_124 : decode cX8_stands 124 = .ok (.ifCond .ne 6, 3) := dk_154 0 6 (dk_at dksX8_stands_5 4 rfl rfl)
theorem dX8_stands_127 : decode cX8_stands 127 = .ok (.goto 43, 3) := dk_167 0 43 (dk_at dksX8_stands_5 7 rfl rfl)
theorem dX8_stands_130 : decode cX8_stands 130 = .ok (.aload_n 0, 1) := dk_42 (dk_at dksX8_stands_5 10 rfl rfl)
theorem dX8_stands_131 : decode cX8_stands 131 = .ok (.iload_n 1, 1) := dk_27 (dk_at dksX8_stands_5 11 rfl rfl)
theorem dX8_stands_132 : decode cX8_stands 132 = .ok (.iload_n 2, 1) := dk_28 (dk_at dksX8_stands_5 12 rfl rfl)
theorem dX8_stands_133 : decode cX8_stands 133 = .ok (.iconst 0, 1) := dk_3 (dk_at dksX8_stands_5 13 rfl rfl)
theorem dX8_stands_134 : decode cX8_stands 134 = .ok (.invokevirtual 271, 3) := dk_182 1 15 (dk_at dksX8_stands_5 14 rfl rfl)
theorem dX8_stands_137 : decode cX8_stands 137 = .ok (.aload_n 0, 1) := dk_42 (dk_at dksX8_stands_5 17 rfl rfl)
theorem dX8_stands_138 : decode cX8_stands 138 = .ok (.getfield 19, 3) := dk_180 0 19 (dk_at dksX8_stands_5 18 rfl rfl)
theorem dX8_stands_141 : decode cX8_stands 141 = .ok (.bipush 6, 2) := dk_16 6 (dk_at dksX8_stands_5 21 rfl rfl)
theorem dX8_stands_143 : decode cX8_stands 143 = .ok (.aload_n 0, 1) := dk_42 (dk_at dksX8_stands_5 23 rfl rfl)
theorem dX8_stands_144 : decode cX8_stands 144 = .ok (.iload_n 1, 1) := dk_27 (dk_at dksX8_stands_6 0 rfl rfl)
theorem dX8_stands_145 : decode cX8_stands 145 = .ok (.invokevirtual 108, 3) := dk_182 0 108 (dk_at dksX8_stands_6 1 rfl rfl)
theorem dX8_stands_148 : decode cX8_stands 148 = .ok (.iastore, 1) := dk_79 (dk_at dksX8_stands_6 4 rfl rfl)
theorem dX8_stands_149 : decode cX8_stands 149 = .ok (.aload_n 0, 1) := dk_42 (dk_at dksX8_stands_6 5 rfl rfl)
theorem dX8_stands_150 : decode cX8_stands 150 = .ok (.getfield 19, 3) := dk_180 0 19 (dk_at dksX8_stands_6 6 rfl rfl)
theorem dX8_stands_153 : decode cX8_stands 153 = .ok (.bipush 7, 2) := dk_16 7 (dk_at dksX8_stands_6 9 rfl rfl)
theorem dX8_stands_155 : decode cX8_stands 155 = .ok (.aload_n 0, 1) := dk_42 (dk_at dksX8_stands_6 11 rfl rfl)
theorem dX8_stands_156 : decode cX8_stands 156 = .ok (.iload_n 1, 1) := dk_27 (dk_at dksX8_stands_6 12 rfl rfl)
theorem dX8_stands_157 : decode cX8_stands 157 = .ok (.aload_n 0, 1) := dk_42 (dk_at dksX8_stands_6 13 rfl rfl)
theorem dX8_stands_158 : decode cX8_stands 158 = .ok (.iload_n 1, 1) := dk_27 (dk_at dksX8_stands_6 14 rfl rfl)
theorem dX8_stands_159 : decode cX8_stands 159 = .ok (.invokevirtual 108, 3) := dk_182 0 108 (dk_at dksX8_stands_6 15 rfl rfl)
theorem dX8_stands_162 : decode cX8_stands 162 = .ok (.invokevirtual 137, 3) := dk_182 0 137 (dk_at dksX8_stands_6 18 rfl rfl)
theorem dX8_stands_165 : decode cX8_stands 165 = .ok (.iastore, 1) := dk_79 (dk_at dksX8_stands_6 21 rfl rfl)
theorem dX8_stands_166 : decode cX8_stands 166 = .ok (.aload_n 0, 1) := dk_42 (dk_at dksX8_stands_6 22 rfl rfl)
theorem dX8_stands_167 : decode cX8_stands 167 = .ok (.invokevirtual 274, 3) := dk_182 1 18 (dk_at dksX8_stands_7 0 rfl rfl)
theorem dX8_stands_170 : decode cX8_stands 170 = .ok (.iinc 2 1, 3) := dk_132 2 1 (dk_at dksX8_stands_7 3 rfl rfl)
theorem dX8_stands_173 : decode cX8_stands 173 = .ok (.goto (-69), 3) := dk_167 255 187 (dk_at dksX8_stands_7 6 rfl rfl)
theorem dX8_stands_176 : decode cX8_stands 176 = .ok (.return_, 1) := dk_177 (dk_at dksX8_stands_7 9 rfl rfl)
abbrev cX8_asksAll : ByteArray := prog_18_method_94_code
def yX8_asksAll : MethodName := ⟨RX8, "asksAll", "(I)V"⟩
def dkwX8_asksAll_1 : List UInt8 := [42, 27, 182, 1, 58, 177]
abbrev dktX8_asksAll_1 : List UInt8 := dkwX8_asksAll_1 ++ []
def dkwX8_asksAll_0 : List UInt8 := [42, 27, 16, 14, 3, 182, 0, 133, 42, 27, 16, 13, 42, 27, 16, 13, 182, 0, 101, 4, 96, 182, 0, 133]
abbrev dktX8_asksAll_0 : List UInt8 := dkwX8_asksAll_0 ++ dktX8_asksAll_1
theorem dksX8_asksAll_0 : cX8_asksAll.data.toList.drop 0 = dktX8_asksAll_0 := by decide +kernel
theorem dksX8_asksAll_1 : cX8_asksAll.data.toList.drop 24 = dktX8_asksAll_1 := dk_seg dksX8_asksAll_0 24 rfl rfl
theorem dX8_asksAll_0 : decode cX8_asksAll 0 = .ok (.aload_n 0, 1) := dk_42 (dk_at dksX8_asksAll_0 0 rfl rfl)
theorem dX8_asksAll_1 : decode cX8_asksAll 1 = .ok (.iload_n 1, 1) := dk_27 (dk_at dksX8_asksAll_0 1 rfl rfl)
theorem dX8_asksAll_2 : decode cX8_asksAll 2 = .ok (.bipush 14, 2) := dk_16 14 (dk_at dksX8_asksAll_0 2 rfl rfl)
theorem dX8_asksAll_4 : decode cX8_asksAll 4 = .ok (.iconst 0, 1) := dk_3 (dk_at dksX8_asksAll_0 4 rfl rfl)
theorem dX8_asksAll_5 : decode cX8_asksAll 5 = .ok (.invokevirtual 133, 3) := dk_182 0 133 (dk_at dksX8_asksAll_0 5 rfl rfl)
theorem dX8_asksAll_8 : decode cX8_asksAll 8 = .ok (.aload_n 0, 1) := dk_42 (dk_at dksX8_asksAll_0 8 rfl rfl)
theorem dX8_asksAll_9 : decode cX8_asksAll 9 = .ok (.iload_n 1, 1) := dk_27 (dk_at dksX8_asksAll_0 9 rfl rfl)
theorem dX8_asksAll_10 : decode cX8_asksAll 10 = .ok (.bipush 13, 2) := dk_16 13 (dk_at dksX8_asksAll_0 10 rfl rfl)
theorem dX8_asksAll_12 : decode cX8_asksAll 12 = .ok (.aload_n 0, 1) := dk_42 (dk_at dksX8_asksAll_0 12 rfl rfl)
theorem dX8_asksAll_13 : decode cX8_asksAll 13 = .ok (.iload_n 1, 1) := dk_27 (dk_at dksX8_asksAll_0 13 rfl rfl)
theorem dX8_asksAll_14 : decode cX8_asksAll 14 = .ok (.bipush 13, 2) := dk_16 13 (dk_at dksX8_asksAll_0 14 rfl rfl)
theorem dX8_asksAll_16 : decode cX8_asksAll 16 = .ok (.invokevirtual 101, 3) := dk_182 0 101 (dk_at dksX8_asksAll_0 16 rfl rfl)
theorem dX8_asksAll_19 : decode cX8_asksAll 19 = .ok (.iconst 1, 1) := dk_4 (dk_at dksX8_asksAll_0 19 rfl rfl)
theorem dX8_asksAll_20 : decode cX8_asksAll 20 = .ok (.iadd, 1) := dk_96 (dk_at dksX8_asksAll_0 20 rfl rfl)
theorem dX8_asksAll_21 : decode cX8_asksAll 21 = .ok (.invokevirtual 133, 3) := dk_182 0 133 (dk_at dksX8_asksAll_0 21 rfl rfl)
theorem dX8_asksAll_24 : decode cX8_asksAll 24 = .ok (.aload_n 0, 1) := dk_42 (dk_at dksX8_asksAll_1 0 rfl rfl)
theorem dX8_asksAll_25 : decode cX8_asksAll 25 = .ok (.iload_n 1, 1) := dk_27 (dk_at dksX8_asksAll_1 1 rfl rfl)
theorem dX8_asksAll_26 : decode cX8_asksAll 26 = .ok (.invokevirtual 314, 3) := dk_182 1 58 (dk_at dksX8_asksAll_1 2 rfl rfl)
theorem dX8_asksAll_29 : decode cX8_asksAll 29 = .ok (.return_, 1) := dk_177 (dk_at dksX8_asksAll_1 5 rfl rfl)
abbrev cX8_found : ByteArray := prog_18_method_99_code
def yX8_found : MethodName := ⟨RX8, "found", "(I)Z"⟩
def dkwX8_found_0 : List UInt8 := [27, 4, 16, 127, 184, 0, 93, 154, 0, 5, 3, 172, 42, 27, 182, 0, 89, 4, 172]
abbrev dktX8_found_0 : List UInt8 := dkwX8_found_0 ++ []
theorem dksX8_found_0 : cX8_found.data.toList.drop 0 = dktX8_found_0 := by decide +kernel
theorem dX8_found_0 : decode cX8_found 0 = .ok (.iload_n 1, 1) := dk_27 (dk_at dksX8_found_0 0 rfl rfl)
theorem dX8_found_1 : decode cX8_found 1 = .ok (.iconst 1, 1) := dk_4 (dk_at dksX8_found_0 1 rfl rfl)
theorem dX8_found_2 : decode cX8_found 2 = .ok (.bipush 127, 2) := dk_16 127 (dk_at dksX8_found_0 2 rfl rfl)
theorem dX8_found_4 : decode cX8_found 4 = .ok (.invokestatic 93, 3) := dk_184 0 93 (dk_at dksX8_found_0 4 rfl rfl)
theorem dX8_found_7 : decode cX8_found 7 = .ok (.ifCond .ne 5, 3) := dk_154 0 5 (dk_at dksX8_found_0 7 rfl rfl)
theorem dX8_found_10 : decode cX8_found 10 = .ok (.iconst 0, 1) := dk_3 (dk_at dksX8_found_0 10 rfl rfl)
theorem dX8_found_11 : decode cX8_found 11 = .ok (.ireturn, 1) := dk_172 (dk_at dksX8_found_0 11 rfl rfl)
theorem dX8_found_12 : decode cX8_found 12 = .ok (.aload_n 0, 1) := dk_42 (dk_at dksX8_found_0 12 rfl rfl)
theorem dX8_found_13 : decode cX8_found 13 = .ok (.iload_n 1, 1) := dk_27 (dk_at dksX8_found_0 13 rfl rfl)
theorem dX8_found_14 : decode cX8_found 14 = .ok (.invokevirtual 89, 3) := dk_182 0 89 (dk_at dksX8_found_0 14 rfl rfl)
theorem dX8_found_17 : decode cX8_found 17 = .ok (.iconst 1, 1) := dk_4 (dk_at dksX8_found_0 17 rfl rfl)
theorem dX8_found_18 : decode cX8_found 18 = .ok (.ireturn, 1) := dk_172 (dk_at dksX8_found_0 18 rfl rfl)
