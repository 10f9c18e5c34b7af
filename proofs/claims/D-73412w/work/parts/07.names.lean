set_option maxRecDepth 100000
abbrev cX8_crash : ByteArray := prog_18_method_100_code
def yX8_crash : MethodName := ⟨RX8, "crash", "(I)Z"⟩
def dkwX8_crash_1 : List UInt8 := [172]
abbrev dktX8_crash_1 : List UInt8 := dkwX8_crash_1 ++ []
def dkwX8_crash_0 : List UInt8 := [42, 27, 182, 0, 105, 154, 0, 5, 3, 172, 42, 27, 2, 182, 1, 85, 42, 27, 3, 3, 182, 0, 133, 4]
abbrev dktX8_crash_0 : List UInt8 := dkwX8_crash_0 ++ dktX8_crash_1
theorem dksX8_crash_0 : cX8_crash.data.toList.drop 0 = dktX8_crash_0 := by decide +kernel
theorem dksX8_crash_1 : cX8_crash.data.toList.drop 24 = dktX8_crash_1 := dk_seg dksX8_crash_0 24 rfl rfl
theorem dX8_crash_0 : decode cX8_crash 0 = .ok (.aload_n 0, 1) := dk_42 (dk_at dksX8_crash_0 0 rfl rfl)
theorem dX8_crash_1 : decode cX8_crash 1 = .ok (.iload_n 1, 1) := dk_27 (dk_at dksX8_crash_0 1 rfl rfl)
theorem dX8_crash_2 : decode cX8_crash 2 = .ok (.invokevirtual 105, 3) := dk_182 0 105 (dk_at dksX8_crash_0 2 rfl rfl)
theorem dX8_crash_5 : decode cX8_crash 5 = .ok (.ifCond .ne 5, 3) := dk_154 0 5 (dk_at dksX8_crash_0 5 rfl rfl)
theorem dX8_crash_8 : decode cX8_crash 8 = .ok (.iconst 0, 1) := dk_3 (dk_at dksX8_crash_0 8 rfl rfl)
theorem dX8_crash_9 : decode cX8_crash 9 = .ok (.ireturn, 1) := dk_172 (dk_at dksX8_crash_0 9 rfl rfl)
theorem dX8_crash_10 : decode cX8_crash 10 = .ok (.aload_n 0, 1) := dk_42 (dk_at dksX8_crash_0 10 rfl rfl)
theorem dX8_crash_11 : decode cX8_crash 11 = .ok (.iload_n 1, 1) := dk_27 (dk_at dksX8_crash_0 11 rfl rfl)
theorem dX8_crash_12 : decode cX8_crash 12 = .ok (.iconst (-1), 1) := dk_2 (dk_at dksX8_crash_0 12 rfl rfl)
theorem dX8_crash_13 : decode cX8_crash 13 = .ok (.invokevirtual 341, 3) := dk_182 1 85 (dk_at dksX8_crash_0 13 rfl rfl)
theorem dX8_crash_16 : decode cX8_crash 16 = .ok (.aload_n 0, 1) := dk_42 (dk_at dksX8_crash_0 16 rfl rfl)
theorem dX8_crash_17 : decode cX8_crash 17 = .ok (.iload_n 1, 1) := dk_27 (dk_at dksX8_crash_0 17 rfl rfl)
theorem dX8_crash_18 : decode cX8_crash 18 = .ok (.iconst 0, 1) := dk_3 (dk_at dksX8_crash_0 18 rfl rfl)
theorem dX8_crash_19 : decode cX8_crash 19 = .ok (.iconst 0, 1) := dk_3 (dk_at dksX8_crash_0 19 rfl rfl)
theorem dX8_crash_20 : decode cX8_crash 20 = .ok (.invokevirtual 133, 3) := dk_182 0 133 (dk_at dksX8_crash_0 20 rfl rfl)
theorem dX8_crash_23 : decode cX8_crash 23 = .ok (.iconst 1, 1) := dk_4 (dk_at dksX8_crash_0 23 rfl rfl)
theorem dX8_crash_24 : decode cX8_crash 24 = .ok (.ireturn, 1) := dk_172 (dk_at dksX8_crash_1 0 rfl rfl)
abbrev cX8_comeUp : ByteArray := prog_18_method_101_code
def yX8_comeUp : MethodName := ⟨RX8, "comeUp", "(I)Z"⟩
def dkwX8_comeUp_4 : List UInt8 := [42, 27, 182, 1, 39, 4, 172]
abbrev dktX8_comeUp_4 : List UInt8 := dkwX8_comeUp_4 ++ []
def dkwX8_comeUp_3 : List UInt8 := [42, 27, 16, 15, 28, 96, 42, 27, 16, 23, 28, 96, 182, 0, 101, 182, 0, 133, 132, 2, 1, 167, 255, 229]
abbrev dktX8_comeUp_3 : List UInt8 := dkwX8_comeUp_3 ++ dktX8_comeUp_4
def dkwX8_comeUp_2 : List UInt8 := [42, 27, 16, 13, 3, 182, 0, 133, 42, 27, 16, 14, 3, 182, 0, 133, 3, 61, 28, 16, 8, 162, 0, 27]
abbrev dktX8_comeUp_2 : List UInt8 := dkwX8_comeUp_2 ++ dktX8_comeUp_3
def dkwX8_comeUp_1 : List UInt8 := [182, 0, 133, 42, 27, 16, 9, 42, 27, 7, 182, 0, 101, 182, 0, 133, 42, 27, 16, 12, 3, 182, 0, 133]
abbrev dktX8_comeUp_1 : List UInt8 := dkwX8_comeUp_1 ++ dktX8_comeUp_2
def dkwX8_comeUp_0 : List UInt8 := [27, 184, 0, 97, 153, 0, 13, 42, 27, 3, 182, 0, 101, 4, 160, 0, 5, 3, 172, 42, 27, 3, 4]
abbrev dktX8_comeUp_0 : List UInt8 := dkwX8_comeUp_0 ++ dktX8_comeUp_1
theorem dksX8_comeUp_0 : cX8_comeUp.data.toList.drop 0 = dktX8_comeUp_0 := by decide +kernel
theorem dksX8_comeUp_1 : cX8_comeUp.data.toList.drop 23 = dktX8_comeUp_1 := dk_seg dksX8_comeUp_0 23 rfl rfl
theorem dksX8_comeUp_2 : cX8_comeUp.data.toList.drop 47 = dktX8_comeUp_2 := dk_seg dksX8_comeUp_1 24 rfl rfl
theorem dksX8_comeUp_3 : cX8_comeUp.data.toList.drop 71 = dktX8_comeUp_3 := dk_seg dksX8_comeUp_2 24 rfl rfl
theorem dksX8_comeUp_4 : cX8_comeUp.data.toList.drop 95 = dktX8_comeUp_4 := dk_seg dksX8_comeUp_3 24 rfl rfl
theorem dX8_comeUp_0 : decode cX8_comeUp 0 = .ok (.iload_n 1, 1) := dk_27 (dk_at dksX8_comeUp_0 0 rfl rfl)
theorem dX8_comeUp_1 : decode cX8_comeUp 1 = .ok (.invokestatic 97, 3) := dk_184 0 97 (dk_at dksX8_comeUp_0 1 rfl rfl)
theorem dX8_comeUp_4 : decode cX8_comeUp 4 = .ok (.ifCond .eq 13, 3) := dk_153 0 13 (dk_at dksX8_comeUp_0 4 rfl rfl)
theorem dX8_comeUp_7 : decode cX8_comeUp 7 = .ok (.aload_n 0, 1) := dk_42 (dk_at dksX8_comeUp_0 7 rfl rfl)
theorem dX8_comeUp_8 : decode cX8_comeUp 8 = .ok (.iload_n 1, 1) := dk_27 (dk_at dksX8_comeUp_0 8 rfl rfl)
theorem dX8_comeUp_9 : decode cX8_comeUp 9 = .ok (.iconst 0, 1) := dk_3 (dk_at dksX8_comeUp_0 9 rfl rfl)
theorem dX8_comeUp_10 : decode cX8_comeUp 10 = .ok (.invokevirtual 101, 3) := dk_182 0 101 (dk_at dksX8_comeUp_0 10 rfl rfl)
theorem dX8_comeUp_13 : decode cX8_comeUp 13 = .ok (.iconst 1, 1) := dk_4 (dk_at dksX8_comeUp_0 13 rfl rfl)
theorem dX8_comeUp_14 : decode cX8_comeUp 14 = .ok (.if_icmp .ne 5, 3) := dk_160 0 5 (dk_at dksX8_comeUp_0 14 rfl rfl)
theorem dX8_comeUp_17 : decode cX8_comeUp 17 = .ok (.iconst 0, 1) := dk_3 (dk_at dksX8_comeUp_0 17 rfl rfl)
theorem dX8_comeUp_18 : decode cX8_comeUp 18 = .ok (.ireturn, 1) := dk_172 (dk_at dksX8_comeUp_0 18 rfl rfl)
theorem dX8_comeUp_19 : decode cX8_comeUp 19 = .ok (.aload_n 0, 1) := dk_42 (dk_at dksX8_comeUp_0 19 rfl rfl)
theorem dX8_comeUp_20 : decode cX8_comeUp 20 = .ok (.iload_n 1, 1) := dk_27 (dk_at dksX8_comeUp_0 20 rfl rfl)
theorem dX8_comeUp_21 : decode cX8_comeUp 21 = .ok (.iconst 0, 1) := dk_3 (dk_at dksX8_comeUp_0 21 rfl rfl)
theorem dX8_comeUp_22 : decode cX8_comeUp 22 = .ok (.iconst 1, 1) := dk_4 (dk_at dksX8_comeUp_0 22 rfl rfl)
theorem dX8_comeUp_23 : decode cX8_comeUp 23 = .ok (.invokevirtual 133, 3) := dk_182 0 133 (dk_at dksX8_comeUp_1 0 rfl rfl)
theorem dX8_comeUp_26 : decode cX8_comeUp 26 = .ok (.aload_n 0, 1) := dk_42 (dk_at dksX8_comeUp_1 3 rfl rfl)
theorem dX8_comeUp_27 : decode cX8_comeUp 27 = .ok (.iload_n 1, 1) := dk_27 (dk_at dksX8_comeUp_1 4 rfl rfl)
theorem dX8_comeUp_28 : decode cX8_comeUp 28 = .ok (.bipush 9, 2) := dk_16 9 (dk_at dksX8_comeUp_1 5 rfl rfl)
theorem dX8_comeUp_30 : decode cX8_comeUp 30 = .ok (.aload_n 0, 1) := dk_42 (dk_at dksX8_comeUp_1 7 rfl rfl)
theorem dX8_comeUp_31 : decode cX8_comeUp 31 = .ok (.iload_n 1, 1) := dk_27 (dk_at dksX8_comeUp_1 8 rfl rfl)
theorem dX8_comeUp_32 : decode cX8_comeUp 32 = .ok (.iconst 4, 1) := dk_7 (dk_at dksX8_comeUp_1 9 rfl rfl)
theorem dX8_comeUp_33 : decode cX8_comeUp 33 = .ok (.invokevirtual 101, 3) := dk_182 0 101 (dk_at dksX8_comeUp_1 10 rfl rfl)
theorem dX8_comeUp_36 : decode cX8_comeUp 36 = .ok (.invokevirtual 133, 3) := dk_182 0 133 (dk_at dksX8_comeUp_1 13 rfl rfl)
theorem dX8_comeUp_39 : decode cX8_comeUp 39 = .ok (.aload_n 0, 1) := dk_42 (dk_at dksX8_comeUp_1 16 rfl rfl)
theorem dX8_comeUp_40 : decode cX8_comeUp 40 = .ok (.iload_n 1, 1) := dk_27 (dk_at dksX8_comeUp_1 17 rfl rfl)
theorem dX8_comeUp_41 : decode cX8_comeUp 41 = .ok (.bipush 12, 2) := dk_16 12 (dk_at dksX8_comeUp_1 18 rfl rfl)
theorem dX8_comeUp_43 : decode cX8_comeUp 43 = .ok (.iconst 0, 1) := dk_3 (dk_at dksX8_comeUp_1 20 rfl rfl)
theorem dX8_comeUp_44 : decode cX8_comeUp 44 = .ok (.invokevirtual 133, 3) := dk_182 0 133 (dk_at dksX8_comeUp_1 21 rfl rfl)
theorem dX8_comeUp_47 : decode cX8_comeUp 47 = .ok (.aload_n 0, 1) := dk_42 (dk_at dksX8_comeUp_2 0 rfl rfl)
theorem dX8_comeUp_48 : decode cX8_comeUp 48 = .ok (.iload_n 1, 1) := dk_27 (dk_at dksX8_comeUp_2 1 rfl rfl)
theorem dX8_comeUp_49 : decode cX8_comeUp 49 = .ok (.bipush 13, 2) := dk_16 13 (dk_at dksX8_comeUp_2 2 rfl rfl)
theorem dX8_comeUp_51 : decode cX8_comeUp 51 = .ok (.iconst 0, 1) := dk_3 (dk_at dksX8_comeUp_2 4 rfl rfl)
theorem dX8_comeUp_52 : decode cX8_comeUp 52 = .ok (.invokevirtual 133, 3) := dk_182 0 133 (dk_at dksX8_comeUp_2 5 rfl rfl)
theorem dX8_comeUp_55 : decode cX8_comeUp 55 = .ok (.aload_n 0, 1) := dk_42 (dk_at dksX8_comeUp_2 8 rfl rfl)
theorem dX8_comeUp_56 : decode cX8_comeUp 56 = .ok (.iload_n 1, 1) := dk_27 (dk_at dksX8_comeUp_2 9 rfl rfl)
theorem dX8_comeUp_57 : decode cX8_comeUp 57 = .ok (.bipush 14, 2) := dk_16 14 (dk_at dksX8_comeUp_2 10 rfl rfl)
theorem dX8_comeUp_59 : decode cX8_comeUp 59 = .ok (.iconst 0, 1) := dk_3 (dk_at dksX8_comeUp_2 12 rfl rfl)
theorem dX8_comeUp_60 : decode cX8_comeUp 60 = .ok (.invokevirtual 133, 3) := dk_182 0 133 (dk_at dksX8_comeUp_2 13 rfl rfl)
theorem dX8_comeUp_63 : decode cX8_comeUp 63 = .ok (.iconst 0, 1) := dk_3 (dk_at dksX8_comeUp_2 16 rfl rfl)
theorem dX8_comeUp_64 : decode cX8_comeUp 64 = .ok (.istore_n 2, 1) := dk_61 (dk_at dksX8_comeUp_2 17 rfl rfl)
theorem dX8_comeUp_65 : decode cX8_comeUp 65 = .ok (.iload_n 2, 1) := dk_28 (dk_at dksX8_comeUp_2 18 rfl rfl)
theorem dX8_comeUp_66 : decode cX8_comeUp 66 = .ok (.bipush 8, 2) := dk_16 8 (dk_at dksX8_comeUp_2 19 rfl rfl)
theorem dX8_comeUp_68 : decode cX8_comeUp 68 = .ok (.if_icmp .ge 27, 3) := dk_162 0 27 (dk_at dksX8_comeUp_2 21 rfl rfl)
theorem dX8_comeUp_71 : decode cX8_comeUp 71 = .ok (.aload_n 0, 1) := dk_42 (dk_at dksX8_comeUp_3 0 rfl rfl)
theorem dX8_comeUp_72 : decode cX8_comeUp 72 = .ok (.iload_n 1, 1) := dk_27 (dk_at dksX8_comeUp_3 1 rfl rfl)
theorem dX8_comeUp_73 : decode cX8_comeUp 73 = .ok (.bipush 15, 2) := dk_16 15 (dk_at dksX8_comeUp_3 2 rfl rfl)
theorem dX8_comeUp_75 : decode cX8_comeUp 75 = .ok (.iload_n 2, 1) := dk_28 (dk_at dksX8_comeUp_3 4 rfl rfl)
theorem dX8_comeUp_76 : decode cX8_comeUp 76 = .ok (.iadd, 1) := dk_96 (dk_at dksX8_comeUp_3 5 rfl rfl)
theorem dX8_comeUp_77 : decode cX8_comeUp 77 = .ok (.aload_n 0, 1) := dk_42 (dk_at dksX8_comeUp_3 6 rfl rfl)
theorem dX8_comeUp_78 : decode cX8_comeUp 78 = .ok (.iload_n 1, 1) := dk_27 (dk_at dksX8_comeUp_3 7 rfl rfl)
theorem dX8_comeUp_79 : decode cX8_comeUp 79 = .ok (.bipush 23, 2) := dk_16 23 (dk_at dksX8_comeUp_3 8 rfl rfl)
theorem dX8_comeUp_81 : decode cX8_comeUp 81 = .ok (.iload_n 2, 1) := dk_28 (dk_at dksX8_comeUp_3 10 rfl rfl)
theorem dX8_comeUp_82 : decode cX8_comeUp 82 = .ok (.iadd, 1) := dk_96 (dk_at dksX8_comeUp_3 11 rfl rfl)
theorem dX8_comeUp_83 : decode cX8_comeUp 83 = .ok (.invokevirtual 101, 3) := dk_182 0 101 (dk_at dksX8_comeUp_3 12 rfl rfl)
theorem dX8_comeUp_86 : decode cX8_comeUp 86 = .ok (.invokevirtual 133, 3) := dk_182 0 133 (dk_at dksX8_comeUp_3 15 rfl rfl)
theorem dX8_comeUp_89 : decode cX8_comeUp 89 = .ok (.iinc 2 1, 3) := dk_132 2 1 (dk_at dksX8_comeUp_3 18 rfl rfl)
theorem dX8_comeUp_92 : decode cX8_comeUp 92 = .ok (.goto (-27), 3) := dk_167 255 229 (dk_at dksX8_comeUp_3 21 rfl rfl)
theorem dX8_comeUp_95 : decode cX8_comeUp 95 = .ok (.aload_n 0, 1) := dk_42 (dk_at dksX8_comeUp_4 0 rfl rfl)
theorem dX8_comeUp_96 : decode cX8_comeUp 96 = .ok (.iload_n 1, 1) := dk_27 (dk_at dksX8_comeUp_4 1 rfl rfl)
theorem dX8_comeUp_97 : decode cX8_comeUp 97 = .ok (.invokevirtual 295, 3) := dk_182 1 39 (dk_at dksX8_comeUp_4 2 rfl rfl)
theorem dX8_comeUp_100 : decode cX8_comeUp 100 = .ok (.iconst 1, 1) := dk_4 (dk_at dksX8_comeUp_4 5 rfl rfl)
theorem dX8_comeUp_101 : decode cX8_comeUp 101 = .ok (.ireturn, 1) := dk_172 (dk_at dksX8_comeUp_4 6 rfl rfl)
abbrev cX8_cut : ByteArray := prog_18_method_102_code
def yX8_cut : MethodName := ⟨RX8, "cut", "(IIZ)Z"⟩
def dkwX8_cut_4 : List UInt8 := [120, 128, 167, 0, 19, 42, 180, 0, 7, 17, 43, 116, 28, 96, 46, 4, 27, 120, 2, 130, 126, 79, 4, 172]
abbrev dktX8_cut_4 : List UInt8 := dkwX8_cut_4 ++ []
def dkwX8_cut_3 : List UInt8 := [180, 0, 7, 17, 43, 116, 28, 96, 29, 153, 0, 20, 42, 180, 0, 7, 17, 43, 116, 28, 96, 46, 4, 27]
abbrev dktX8_cut_3 : List UInt8 := dkwX8_cut_3 ++ dktX8_cut_4
def dkwX8_cut_2 : List UInt8 := [120, 128, 167, 0, 19, 42, 180, 0, 7, 17, 43, 116, 27, 96, 46, 4, 28, 120, 2, 130, 126, 79, 42]
abbrev dktX8_cut_2 : List UInt8 := dkwX8_cut_2 ++ dktX8_cut_3
def dkwX8_cut_1 : List UInt8 := [180, 0, 7, 17, 43, 116, 27, 96, 29, 153, 0, 20, 42, 180, 0, 7, 17, 43, 116, 27, 96, 46, 4, 28]
abbrev dktX8_cut_1 : List UInt8 := dkwX8_cut_1 ++ dktX8_cut_2
def dkwX8_cut_0 : List UInt8 := [27, 184, 0, 97, 153, 0, 15, 28, 184, 0, 97, 153, 0, 8, 27, 28, 160, 0, 5, 3, 172, 42]
abbrev dktX8_cut_0 : List UInt8 := dkwX8_cut_0 ++ dktX8_cut_1
theorem dksX8_cut_0 : cX8_cut.data.toList.drop 0 = dktX8_cut_0 := by decide +kernel
theorem dksX8_cut_1 : cX8_cut.data.toList.drop 22 = dktX8_cut_1 := dk_seg dksX8_cut_0 22 rfl rfl
theorem dksX8_cut_2 : cX8_cut.data.toList.drop 46 = dktX8_cut_2 := dk_seg dksX8_cut_1 24 rfl rfl
theorem dksX8_cut_3 : cX8_cut.data.toList.drop 69 = dktX8_cut_3 := dk_seg dksX8_cut_2 23 rfl rfl
theorem dksX8_cut_4 : cX8_cut.data.toList.drop 93 = dktX8_cut_4 := dk_seg dksX8_cut_3 24 rfl rfl
theorem dX8_cut_0 : decode cX8_cut 0 = .ok (.iload_n 1, 1) := dk_27 (dk_at dksX8_cut_0 0 rfl rfl)
theorem dX8_cut_1 : decode cX8_cut 1 = .ok (.invokestatic 97, 3) := dk_184 0 97 (dk_at dksX8_cut_0 1 rfl rfl)
theorem dX8_cut_4 : decode cX8_cut 4 = .ok (.ifCond .eq 15, 3) := dk_153 0 15 (dk_at dksX8_cut_0 4 rfl rfl)
theorem dX8_cut_7 : decode cX8_cut 7 = .ok (.iload_n 2, 1) := dk_28 (dk_at dksX8_cut_0 7 rfl rfl)
theorem dX8_cut_8 : decode cX8_cut 8 = .ok (.invokestatic 97, 3) := dk_184 0 97 (dk_at dksX8_cut_0 8 rfl rfl)
theorem dX8_cut_11 : decode cX8_cut 11 = .ok (.ifCond .eq 8, 3) := dk_153 0 8 (dk_at dksX8_cut_0 11 rfl rfl)
theorem dX8_cut_14 : decode cX8_cut 14 = .ok (.iload_n 1, 1) := dk_27 (dk_at dksX8_cut_0 14 rfl rfl)
theorem dX8_cut_15 : decode cX8_cut 15 = .ok (.iload_n 2, 1) := dk_28 (dk_at dksX8_cut_0 15 rfl rfl)
theorem dX8_cut_16 : decode cX8_cut 16 = .ok (.if_icmp .ne 5, 3) := dk_160 0 5 (dk_at dksX8_cut_0 16 rfl rfl)
theorem dX8_cut_19 : decode cX8_cut 19 = .ok (.iconst 0, 1) := dk_3 (dk_at dksX8_cut_0 19 rfl rfl)
theorem dX8_cut_20 : decode cX8_cut 20 = .ok (.ireturn, 1) := dk_172 (dk_at dksX8_cut_0 20 rfl rfl)
theorem dX8_cut_21 : decode cX8_cut 21 = .ok (.aload_n 0, 1) := dk_42 (dk_at dksX8_cut_0 21 rfl rfl)
theorem dX8_cut_22 : decode cX8_cut 22 = .ok (.getfield 7, 3) := dk_180 0 7 (dk_at dksX8_cut_1 0 rfl rfl)
theorem dX8_cut_25 : decode cX8_cut 25 = .ok (.sipush 11124, 3) := dk_17 43 116 (dk_at dksX8_cut_1 3 rfl rfl)
theorem dX8_cut_28 : decode cX8_cut 28 = .ok (.iload_n 1, 1) := dk_27 (dk_at dksX8_cut_1 6 rfl rfl)
theorem dX8_cut_29 : decode cX8_cut 29 = .ok (.iadd, 1) := dk_96 (dk_at dksX8_cut_1 7 rfl rfl)
theorem dX8_cut_30 : decode cX8_cut 30 = .ok (.iload_n 3, 1) := dk_29 (dk_at dksX8_cut_1 8 rfl rfl)
theorem dX8_cut_31 : decode cX8_cut 31 = .ok (.ifCond .eq 20, 3) := dk_153 0 20 (dk_at dksX8_cut_1 9 rfl rfl)
theorem dX8_cut_34 : decode cX8_cut 34 = .ok (.aload_n 0, 1) := dk_42 (dk_at dksX8_cut_1 12 rfl rfl)
theorem dX8_cut_35 : decode cX8_cut 35 = .ok (.getfield 7, 3) := dk_180 0 7 (dk_at dksX8_cut_1 13 rfl rfl)
theorem dX8_cut_38 : decode cX8_cut 38 = .ok (.sipush 11124, 3) := dk_17 43 116 (dk_at dksX8_cut_1 16 rfl rfl)
theorem dX8_cut_41 : decode cX8_cut 41 = .ok (.iload_n 1, 1) := dk_27 (dk_at dksX8_cut_1 19 rfl rfl)
theorem dX8_cut_42 : decode cX8_cut 42 = .ok (.iadd, 1) := dk_96 (dk_at dksX8_cut_1 20 rfl rfl)
theorem dX8_cut_43 : decode cX8_cut 43 = .ok (.iaload, 1) := dk_46 (dk_at dksX8_cut_1 21 rfl rfl)
theorem dX8_cut_44 : decode cX8_cut 44 = .ok (.iconst 1, 1) := dk_4 (dk_at dksX8_cut_1 22 rfl rfl)
theorem dX8_cut_45 : decode cX8_cut 45 = .ok (.iload_n 2, 1) := dk_28 (dk_at dksX8_cut_1 23 rfl rfl)
theorem dX8_cut_46 : decode cX8_cut 46 = .ok (.ishl, 1) := dk_120 (dk_at dksX8_cut_2 0 rfl rfl)
theorem dX8_cut_47 : decode cX8_cut 47 = .ok (.ior, 1) := dk_128 (dk_at dksX8_cut_2 1 rfl rfl)
theorem dX8_cut_48 : decode cX8_cut 48 = .ok (.goto 19, 3) := dk_167 0 19 (dk_at dksX8_cut_2 2 rfl rfl)
theorem dX8_cut_51 : decode cX8_cut 51 = .ok (.aload_n 0, 1) := dk_42 (dk_at dksX8_cut_2 5 rfl rfl)
theorem dX8_cut_52 : decode cX8_cut 52 = .ok (.getfield 7, 3) := dk_180 0 7 (dk_at dksX8_cut_2 6 rfl rfl)
theorem dX8_cut_55 : decode cX8_cut 55 = .ok (.sipush 11124, 3) := dk_17 43 116 (dk_at dksX8_cut_2 9 rfl rfl)
theorem dX8_cut_58 : decode cX8_cut 58 = .ok (.iload_n 1, 1) := dk_27 (dk_at dksX8_cut_2 12 rfl rfl)
theorem dX8_cut_59 : decode cX8_cut 59 = .ok (.iadd, 1) := dk_96 (dk_at dksX8_cut_2 13 rfl rfl)
theorem dX8_cut_60 : decode cX8_cut 60 = .ok (.iaload, 1) := dk_46 (dk_at dksX8_cut_2 14 rfl rfl)
theorem dX8_cut_61 : decode cX8_cut 61 = .ok (.iconst 1, 1) := dk_4 (dk_at dksX8_cut_2 15 rfl rfl)
theorem dX8_cut_62 : decode cX8_cut 62 = .ok (.iload_n 2, 1) := dk_28 (dk_at dksX8_cut_2 16 rfl rfl)
theorem dX8_cut_63 : decode cX8_cut 63 = .ok (.ishl, 1) := dk_120 (dk_at dksX8_cut_2 17 rfl rfl)
theorem dX8_cut_64 : decode cX8_cut 64 = .ok (.iconst (-1), 1) := dk_2 (dk_at dksX8_cut_2 18 rfl rfl)
theorem dX8_cut_65 : decode cX8_cut 65 = .ok (.ixor, 1) := dk_130 (dk_at dksX8_cut_2 19 rfl rfl)
theorem dX8_cut_66 : decode cX8_cut 66 = .ok (.iand, 1) := dk_126 (dk_at dksX8_cut_2 20 rfl rfl)
theorem dX8_cut_67 : decode cX8_cut 67 = .ok (.iastore, 1) := dk_79 (dk_at dksX8_cut_2 21 rfl rfl)
theorem dX8_cut_68 : decode cX8_cut 68 = .ok (.aload_n 0, 1) := dk_42 (dk_at dksX8_cut_2 22 rfl rfl)
theorem dX8_cut_69 : decode cX8_cut 69 = .ok (.getfield 7, 3) := dk_180 0 7 (dk_at dksX8_cut_3 0 rfl rfl)
theorem dX8_cut_72 : decode cX8_cut 72 = .ok (.sipush 11124, 3) := dk_17 43 116 (dk_at dksX8_cut_3 3 rfl rfl)
theorem dX8_cut_75 : decode cX8_cut 75 = .ok (.iload_n 2, 1) := dk_28 (dk_at dksX8_cut_3 6 rfl rfl)
theorem dX8_cut_76 : decode cX8_cut 76 = .ok (.iadd, 1) := dk_96 (dk_at dksX8_cut_3 7 rfl rfl)
theorem dX8_cut_77 : decode cX8_cut 77 = .ok (.iload_n 3, 1) := dk_29 (dk_at dksX8_cut_3 8 rfl rfl)
theorem dX8_cut_78 : decode cX8_cut 78 = .ok (.ifCond .eq 20, 3) := dk_153 0 20 (dk_at dksX8_cut_3 9 rfl rfl)
theorem dX8_cut_81 : decode cX8_cut 81 = .ok (.aload_n 0, 1) := dk_42 (dk_at dksX8_cut_3 12 rfl rfl)
theorem dX8_cut_82 : decode cX8_cut 82 = .ok (.getfield 7, 3) := dk_180 0 7 (dk_at dksX8_cut_3 13 rfl rfl)
theorem dX8_cut_85 : decode cX8_cut 85 = .ok (.sipush 11124, 3) := dk_17 43 116 (dk_at dksX8_cut_3 16 rfl rfl)
theorem dX8_cut_88 : decode cX8_cut 88 = .ok (.iload_n 2, 1) := dk_28 (dk_at dksX8_cut_3 19 rfl rfl)
theorem dX8_cut_89 : decode cX8_cut 89 = .ok (.iadd, 1) := dk_96 (dk_at dksX8_cut_3 20 rfl rfl)
theorem dX8_cut_90 : decode cX8_cut 90 = .ok (.iaload, 1) := dk_46 (dk_at dksX8_cut_3 21 rfl rfl)
theorem dX8_cut_91 : decode cX8_cut 91 = .ok (.iconst 1, 1) := dk_4 (dk_at dksX8_cut_3 22 rfl rfl)
theorem dX8_cut_92 : decode cX8_cut 92 = .ok (.iload_n 1, 1) := dk_27 (dk_at dksX8_cut_3 23 rfl rfl)
theorem dX8_cut_93 : decode cX8_cut 93 = .ok (.ishl, 1) := dk_120 (dk_at dksX8_cut_4 0 rfl rfl)
theorem dX8_cut_94 : decode cX8_cut 94 = .ok (.ior, 1) := dk_128 (dk_at dksX8_cut_4 1 rfl rfl)
theorem dX8_cut_95 : decode cX8_cut 95 = .ok (.goto 19, 3) := dk_167 0 19 (dk_at dksX8_cut_4 2 rfl rfl)
theorem dX8_cut_98 : decode cX8_cut 98 = .ok (.aload_n 0, 1) := dk_42 (dk_at dksX8_cut_4 5 rfl rfl)
theorem dX8_cut_99 : decode cX8_cut 99 = .ok (.getfield 7, 3) := dk_180 0 7 (dk_at dksX8_cut_4 6 rfl rfl)
theorem dX8_cut_102 : decode cX8_cut 102 = .ok (.sipush 11124, 3) := dk_17 43 116 (dk_at dksX8_cut_4 9 rfl rfl)
theorem dX8_cut_105 : decode cX8_cut 105 = .ok (.iload_n 2, 1) := dk_28 (dk_at dksX8_cut_4 12 rfl rfl)
theorem dX8_cut_106 : decode cX8_cut 106 = .ok (.iadd, 1) := dk_96 (dk_at dksX8_cut_4 13 rfl rfl)
theorem dX8_cut_107 : decode cX8_cut 107 = .ok (.iaload, 1) := dk_46 (dk_at dksX8_cut_4 14 rfl rfl)
theorem dX8_cut_108 : decode cX8_cut 108 = .ok (.iconst 1, 1) := dk_4 (dk_at dksX8_cut_4 15 rfl rfl)
theorem dX8_cut_109 : decode cX8_cut 109 = .ok (.iload_n 1, 1) := dk_27 (dk_at dksX8_cut_4 16 rfl rfl)
theorem dX8_cut_110 : decode cX8_cut 110 = .ok (.ishl, 1) := dk_120 (dk_at dksX8_cut_4 17 rfl rfl)
theorem dX8_cut_111 : decode cX8_cut 111 = .ok (.iconst (-1), 1) := dk_2 (dk_at dksX8_cut_4 18 rfl rfl)
theorem dX8_cut_112 : decode cX8_cut 112 = .ok (.ixor, 1) := dk_130 (dk_at dksX8_cut_4 19 rfl rfl)
theorem dX8_cut_113 : decode cX8_cut 113 = .ok (.iand, 1) := dk_126 (dk_at dksX8_cut_4 20 rfl rfl)
theorem dX8_cut_114 : decode cX8_cut 114 = .ok (.iastore, 1) := dk_79 (dk_at dksX8_cut_4 21 rfl rfl)
theorem dX8_cut_115 : decode cX8_cut 115 = .ok (.iconst 1, 1) := dk_4 (dk_at dksX8_cut_4 22 rfl rfl)
theorem dX8_cut_116 : decode cX8_cut 116 = .ok (.ireturn, 1) := dk_172 (dk_at dksX8_cut_4 23 rfl rfl)
abbrev cX8_compact : ByteArray := prog_18_method_103_code
def yX8_compact : MethodName := ⟨RX8, "compact", "(I)Z"⟩
def dkwX8_compact_1 : List UInt8 := [3, 172, 42, 27, 182, 0, 144, 4, 172]
abbrev dktX8_compact_1 : List UInt8 := dkwX8_compact_1 ++ []
def dkwX8_compact_0 : List UInt8 := [42, 27, 182, 0, 105, 153, 0, 19, 42, 27, 16, 9, 182, 0, 101, 42, 27, 7, 182, 0, 101, 160, 0, 5]
abbrev dktX8_compact_0 : List UInt8 := dkwX8_compact_0 ++ dktX8_compact_1
theorem dksX8_compact_0 : cX8_compact.data.toList.drop 0 = dktX8_compact_0 := by decide +kernel
theorem dksX8_compact_1 : cX8_compact.data.toList.drop 24 = dktX8_compact_1 := dk_seg dksX8_compact_0 24 rfl rfl
theorem dX8_compact_0 : decode cX8_compact 0 = .ok (.aload_n 0, 1) := dk_42 (dk_at dksX8_compact_0 0 rfl rfl)
theorem dX8_compact_1 : decode cX8_compact 1 = .ok (.iload_n 1, 1) := dk_27 (dk_at dksX8_compact_0 1 rfl rfl)
theorem dX8_compact_2 : decode cX8_compact 2 = .ok (.invokevirtual 105, 3) := dk_182 0 105 (dk_at dksX8_compact_0 2 rfl rfl)
theorem dX8_compact_5 : decode cX8_compact 5 = .ok (.ifCond .eq 19, 3) := dk_153 0 19 (dk_at dksX8_compact_0 5 rfl rfl)
theorem dX8_compact_8 : decode cX8_compact 8 = .ok (.aload_n 0, 1) := dk_42 (dk_at dksX8_compact_0 8 rfl rfl)
theorem dX8_compact_9 : decode cX8_compact 9 = .ok (.iload_n 1, 1) := dk_27 (dk_at dksX8_compact_0 9 rfl rfl)
theorem dX8_compact_10 : decode cX8_compact 10 = .ok (.bipush 9, 2) := dk_16 9 (dk_at dksX8_compact_0 10 rfl rfl)
theorem dX8_compact_12 : decode cX8_compact 12 = .ok (.invokevirtual 101, 3) := dk_182 0 101 (dk_at dksX8_compact_0 12 rfl rfl)
theorem dX8_compact_15 : decode cX8_compact 15 = .ok (.aload_n 0, 1) := dk_42 (dk_at dksX8_compact_0 15 rfl rfl)
theorem dX8_compact_16 : decode cX8_compact 16 = .ok (.iload_n 1, 1) := dk_27 (dk_at dksX8_compact_0 16 rfl rfl)
theorem dX8_compact_17 : decode cX8_compact 17 = .ok (.iconst 4, 1) := dk_7 (dk_at dksX8_compact_0 17 rfl rfl)
theorem dX8_compact_18 : decode cX8_compact 18 = .ok (.invokevirtual 101, 3) := dk_182 0 101 (dk_at dksX8_compact_0 18 rfl rfl)
theorem dX8_compact_21 : decode cX8_compact 21 = .ok (.if_icmp .ne 5, 3) := dk_160 0 5 (dk_at dksX8_compact_0 21 rfl rfl)
theorem dX8_compact_24 : decode cX8_compact 24 = .ok (.iconst 0, 1) := dk_3 (dk_at dksX8_compact_1 0 rfl rfl)
theorem dX8_compact_25 : decode cX8_compact 25 = .ok (.ireturn, 1) := dk_172 (dk_at dksX8_compact_1 1 rfl rfl)
theorem dX8_compact_26 : decode cX8_compact 26 = .ok (.aload_n 0, 1) := dk_42 (dk_at dksX8_compact_1 2 rfl rfl)
theorem dX8_compact_27 : decode cX8_compact 27 = .ok (.iload_n 1, 1) := dk_27 (dk_at dksX8_compact_1 3 rfl rfl)
theorem dX8_compact_28 : decode cX8_compact 28 = .ok (.invokevirtual 144, 3) := dk_182 0 144 (dk_at dksX8_compact_1 4 rfl rfl)
theorem dX8_compact_31 : decode cX8_compact 31 = .ok (.iconst 1, 1) := dk_4 (dk_at dksX8_compact_1 7 rfl rfl)
theorem dX8_compact_32 : decode cX8_compact 32 = .ok (.ireturn, 1) := dk_172 (dk_at dksX8_compact_1 8 rfl rfl)
abbrev cX8_write : ByteArray := prog_18_method_105_code
def yX8_write : MethodName := ⟨RX8, "write", "(III)I"⟩
def dkwX8_write_3 : List UInt8 := [54, 4, 42, 27, 182, 1, 55, 21, 4, 172]
abbrev dktX8_write_3 : List UInt8 := dkwX8_write_3 ++ []
def dkwX8_write_2 : List UInt8 := [16, 253, 172, 42, 27, 42, 27, 4, 182, 0, 101, 3, 28, 29, 182, 1, 51, 87, 42, 27, 182, 0, 108]
abbrev dktX8_write_2 : List UInt8 := dkwX8_write_2 ++ dktX8_write_3
def dkwX8_write_1 : List UInt8 := [154, 0, 5, 2, 172, 42, 27, 182, 1, 158, 154, 0, 6, 16, 254, 172, 42, 27, 182, 1, 161, 153, 0, 6]
abbrev dktX8_write_1 : List UInt8 := dkwX8_write_1 ++ dktX8_write_2
def dkwX8_write_0 : List UInt8 := [27, 184, 0, 97, 153, 0, 23, 28, 3, 16, 7, 184, 0, 93, 153, 0, 13, 29, 3, 16, 99, 184, 0, 93]
abbrev dktX8_write_0 : List UInt8 := dkwX8_write_0 ++ dktX8_write_1
theorem dksX8_write_0 : cX8_write.data.toList.drop 0 = dktX8_write_0 := by decide +kernel
theorem dksX8_write_1 : cX8_write.data.toList.drop 24 = dktX8_write_1 := dk_seg dksX8_write_0 24 rfl rfl
theorem dksX8_write_2 : cX8_write.data.toList.drop 48 = dktX8_write_2 := dk_seg dksX8_write_1 24 rfl rfl
theorem dksX8_write_3 : cX8_write.data.toList.drop 71 = dktX8_write_3 := dk_seg dksX8_write_2 23 rfl rfl
theorem dX8_write_0 : decode cX8_write 0 = .ok (.iload_n 1, 1) := dk_27 (dk_at dksX8_write_0 0 rfl rfl)
theorem dX8_write_1 : decode cX8_write 1 = .ok (.invokestatic 97, 3) := dk_184 0 97 (dk_at dksX8_write_0 1 rfl rfl)
theorem dX8_write_4 : decode cX8_write 4 = .ok (.ifCond .eq 23, 3) := dk_153 0 23 (dk_at dksX8_write_0 4 rfl rfl)
theorem dX8_write_7 : decode cX8_write 7 = .ok (.iload_n 2, 1) := dk_28 (dk_at dksX8_write_0 7 rfl rfl)
theorem dX8_write_8 : decode cX8_write 8 = .ok (.iconst 0, 1) := dk_3 (dk_at dksX8_write_0 8 rfl rfl)
theorem dX8_write_9 : decode cX8_write 9 = .ok (.bipush 7, 2) := dk_16 7 (dk_at dksX8_write_0 9 rfl rfl)
theorem dX8_write_11 : decode cX8_write 11 = .ok (.invokestatic 93, 3) := dk_184 0 93 (dk_at dksX8_write_0 11 rfl rfl)
theorem dX8_write_14 : decode cX8_write 14 = .ok (.ifCond .eq 13, 3) := dk_153 0 13 (dk_at dksX8_write_0 14 rfl rfl)
theorem dX8_write_17 : decode cX8_write 17 = .ok (.iload_n 3, 1) := dk_29 (dk_at dksX8_write_0 17 rfl rfl)
theorem dX8_write_18 : decode cX8_write 18 = .ok (.iconst 0, 1) := dk_3 (dk_at dksX8_write_0 18 rfl rfl)
theorem dX8_write_19 : decode cX8_write 19 = .ok (.bipush 99, 2) := dk_16 99 (dk_at dksX8_write_0 19 rfl rfl)
theorem dX8_write_21 : decode cX8_write 21 = .ok (.invokestatic 93, 3) := dk_184 0 93 (dk_at dksX8_write_0 21 rfl rfl)
theorem dX8_write_24 : decode cX8_write 24 = .ok (.ifCond .ne 5, 3) := dk_154 0 5 (dk_at dksX8_write_1 0 rfl rfl)
theorem dX8_write_27 : decode cX8_write 27 = .ok (.iconst (-1), 1) := dk_2 (dk_at dksX8_write_1 3 rfl rfl)
theorem dX8_write_28 : decode cX8_write 28 = .ok (.ireturn, 1) := dk_172 (dk_at dksX8_write_1 4 rfl rfl)
theorem dX8_write_29 : decode cX8_write 29 = .ok (.aload_n 0, 1) := dk_42 (dk_at dksX8_write_1 5 rfl rfl)
theorem dX8_write_30 : decode cX8_write 30 = .ok (.iload_n 1, 1) := dk_27 (dk_at dksX8_write_1 6 rfl rfl)
theorem dX8_write_31 : decode cX8_write 31 = .ok (.invokevirtual 414, 3) := dk_182 1 158 (dk_at dksX8_write_1 7 rfl rfl)
theorem dX8_write_34 : decode cX8_write 34 = .ok (.ifCond .ne 6, 3) := dk_154 0 6 (dk_at dksX8_write_1 10 rfl rfl)
theorem dX8_write_37 : decode cX8_write 37 = .ok (.bipush (-2), 2) := dk_16 254 (dk_at dksX8_write_1 13 rfl rfl)
theorem dX8_write_39 : decode cX8_write 39 = .ok (.ireturn, 1) := dk_172 (dk_at dksX8_write_1 15 rfl rfl)
theorem dX8_write_40 : decode cX8_write 40 = .ok (.aload_n 0, 1) := dk_42 (dk_at dksX8_write_1 16 rfl rfl)
theorem dX8_write_41 : decode cX8_write 41 = .ok (.iload_n 1, 1) := dk_27 (dk_at dksX8_write_1 17 rfl rfl)
theorem dX8_write_42 : decode cX8_write 42 = .ok (.invokevirtual 417, 3) := dk_182 1 161 (dk_at dksX8_write_1 18 rfl rfl)
theorem dX8_write_45 : decode cX8_write 45 = .ok (.ifCond .eq 6, 3) := dk_153 0 6 (dk_at dksX8_write_1 21 rfl rfl)
theorem dX8_write_48 : decode cX8_write 48 = .ok (.bipush (-3), 2) := dk_16 253 (dk_at dksX8_write_2 0 rfl rfl)
theorem dX8_write_50 : decode cX8_write 50 = .ok (.ireturn, 1) := dk_172 (dk_at dksX8_write_2 2 rfl rfl)
theorem dX8_write_51 : decode cX8_write 51 = .ok (.aload_n 0, 1) := dk_42 (dk_at dksX8_write_2 3 rfl rfl)
theorem dX8_write_52 : decode cX8_write 52 = .ok (.iload_n 1, 1) := dk_27 (dk_at dksX8_write_2 4 rfl rfl)
theorem dX8_write_53 : decode cX8_write 53 = .ok (.aload_n 0, 1) := dk_42 (dk_at dksX8_write_2 5 rfl rfl)
theorem dX8_write_54 : decode cX8_write 54 = .ok (.iload_n 1, 1) := dk_27 (dk_at dksX8_write_2 6 rfl rfl)
theorem dX8_write_55 : decode cX8_write 55 = .ok (.iconst 1, 1) := dk_4 (dk_at dksX8_write_2 7 rfl rfl)
theorem dX8_write_56 : decode cX8_write 56 = .ok (.invokevirtual 101, 3) := dk_182 0 101 (dk_at dksX8_write_2 8 rfl rfl)
theorem dX8_write_59 : decode cX8_write 59 = .ok (.iconst 0, 1) := dk_3 (dk_at dksX8_write_2 11 rfl rfl)
theorem dX8_write_60 : decode cX8_write 60 = .ok (.iload_n 2, 1) := dk_28 (dk_at dksX8_write_2 12 rfl rfl)
theorem dX8_write_61 : decode cX8_write 61 = .ok (.iload_n 3, 1) := dk_29 (dk_at dksX8_write_2 13 rfl rfl)
theorem dX8_write_62 : decode cX8_write 62 = .ok (.invokevirtual 307, 3) := dk_182 1 51 (dk_at dksX8_write_2 14 rfl rfl)
theorem dX8_write_65 : decode cX8_write 65 = .ok (.pop, 1) := dk_87 (dk_at dksX8_write_2 17 rfl rfl)
theorem dX8_write_66 : decode cX8_write 66 = .ok (.aload_n 0, 1) := dk_42 (dk_at dksX8_write_2 18 rfl rfl)
theorem dX8_write_67 : decode cX8_write 67 = .ok (.iload_n 1, 1) := dk_27 (dk_at dksX8_write_2 19 rfl rfl)
theorem dX8_write_68 : decode cX8_write 68 = .ok (.invokevirtual 108, 3) := dk_182 0 108 (dk_at dksX8_write_2 20 rfl rfl)
theorem dX8_write_71 : decode cX8_write 71 = .ok (.istore 4, 2) := dk_54 4 (dk_at dksX8_write_3 0 rfl rfl)
theorem dX8_write_73 : decode cX8_write 73 = .ok (.aload_n 0, 1) := dk_42 (dk_at dksX8_write_3 2 rfl rfl)
theorem dX8_write_74 : decode cX8_write 74 = .ok (.iload_n 1, 1) := dk_27 (dk_at dksX8_write_3 3 rfl rfl)
theorem dX8_write_75 : decode cX8_write 75 = .ok (.invokevirtual 311, 3) := dk_182 1 55 (dk_at dksX8_write_3 4 rfl rfl)
theorem dX8_write_78 : decode cX8_write 78 = .ok (.iload 4, 2) := dk_21 4 (dk_at dksX8_write_3 7 rfl rfl)
theorem dX8_write_80 : decode cX8_write 80 = .ok (.ireturn, 1) := dk_172 (dk_at dksX8_write_3 9 rfl rfl)
abbrev cX8_isLeader : ByteArray := prog_18_method_12_code
def yX8_isLeader : MethodName := ⟨RX8, "isLeader", "(I)Z"⟩
def dkwX8_isLeader_0 : List UInt8 := [42, 27, 182, 0, 105, 153, 0, 17, 42, 27, 6, 182, 0, 101, 5, 160, 0, 7, 4, 167, 0, 4, 3, 172]
abbrev dktX8_isLeader_0 : List UInt8 := dkwX8_isLeader_0 ++ []
theorem dksX8_isLeader_0 : cX8_isLeader.data.toList.drop 0 = dktX8_isLeader_0 := by decide +kernel
theorem dX8_isLeader_0 : decode cX8_isLeader 0 = .ok (.aload_n 0, 1) := dk_42 (dk_at dksX8_isLeader_0 0 rfl rfl)
theorem dX8_isLeader_1 : decode cX8_isLeader 1 = .ok (.iload_n 1, 1) := dk_27 (dk_at dksX8_isLeader_0 1 rfl rfl)
theorem dX8_isLeader_2 : decode cX8_isLeader 2 = .ok (.invokevirtual 105, 3) := dk_182 0 105 (dk_at dksX8_isLeader_0 2 rfl rfl)
theorem dX8_isLeader_5 : decode cX8_isLeader 5 = .ok (.ifCond .eq 17, 3) := dk_153 0 17 (dk_at dksX8_isLeader_0 5 rfl rfl)
theorem dX8_isLeader_8 : decode cX8_isLeader 8 = .ok (.aload_n 0, 1) := dk_42 (dk_at dksX8_isLeader_0 8 rfl rfl)
theorem dX8_isLeader_9 : decode cX8_isLeader 9 = .ok (.iload_n 1, 1) := dk_27 (dk_at dksX8_isLeader_0 9 rfl rfl)
theorem dX8_isLeader_10 : decode cX8_isLeader 10 = .ok (.iconst 3, 1) := dk_6 (dk_at dksX8_isLeader_0 10 rfl rfl)
theorem dX8_isLeader_11 : decode cX8_isLeader 11 = .ok (.invokevirtual 101, 3) := dk_182 0 101 (dk_at dksX8_isLeader_0 11 rfl rfl)
theorem dX8_isLeader_14 : decode cX8_isLeader 14 = .ok (.iconst 2, 1) := dk_5 (dk_at dksX8_isLeader_0 14 rfl rfl)
theorem dX8_isLeader_15 : decode cX8_isLeader 15 = .ok (.if_icmp .ne 7, 3) := dk_160 0 7 (dk_at dksX8_isLeader_0 15 rfl rfl)
theorem dX8_isLeader_18 : decode cX8_isLeader 18 = .ok (.iconst 1, 1) := dk_4 (dk_at dksX8_isLeader_0 18 rfl rfl)
theorem dX8_isLeader_19 : decode cX8_isLeader 19 = .ok (.goto 4, 3) := dk_167 0 4 (dk_at dksX8_isLeader_0 19 rfl rfl)
theorem dX8_isLeader_22 : decode cX8_isLeader 22 = .ok (.iconst 0, 1) := dk_3 (dk_at dksX8_isLeader_0 22 rfl rfl)
theorem dX8_isLeader_23 : decode cX8_isLeader 23 = .ok (.ireturn, 1) := dk_172 (dk_at dksX8_isLeader_0 23 rfl rfl)
abbrev cX8_isFull : ByteArray := prog_18_method_104_code
def yX8_isFull : MethodName := ⟨RX8, "isFull", "(I)Z"⟩
def dkwX8_isFull_1 : List UInt8 := [167, 0, 4, 3, 172]
abbrev dktX8_isFull_1 : List UInt8 := dkwX8_isFull_1 ++ []
def dkwX8_isFull_0 : List UInt8 := [42, 27, 16, 8, 182, 0, 101, 16, 40, 162, 0, 14, 42, 27, 182, 0, 108, 17, 3, 231, 160, 0, 7, 4]
abbrev dktX8_isFull_0 : List UInt8 := dkwX8_isFull_0 ++ dktX8_isFull_1
theorem dksX8_isFull_0 : cX8_isFull.data.toList.drop 0 = dktX8_isFull_0 := by decide +kernel
theorem dksX8_isFull_1 : cX8_isFull.data.toList.drop 24 = dktX8_isFull_1 := dk_seg dksX8_isFull_0 24 rfl rfl
theorem dX8_isFull_0 : decode cX8_isFull 0 = .ok (.aload_n 0, 1) := dk_42 (dk_at dksX8_isFull_0 0 rfl rfl)
theorem dX8_isFull_1 : decode cX8_isFull 1 = .ok (.iload_n 1, 1) := dk_27 (dk_at dksX8_isFull_0 1 rfl rfl)
theorem dX8_isFull_2 : decode cX8_isFull 2 = .ok (.bipush 8, 2) := dk_16 8 (dk_at dksX8_isFull_0 2 rfl rfl)
theorem dX8_isFull_4 : decode cX8_isFull 4 = .ok (.invokevirtual 101, 3) := dk_182 0 101 (dk_at dksX8_isFull_0 4 rfl rfl)
theorem dX8_isFull_7 : decode cX8_isFull 7 = .ok (.bipush 40, 2) := dk_16 40 (dk_at dksX8_isFull_0 7 rfl rfl)
theorem dX8_isFull_9 : decode cX8_isFull 9 = .ok (.if_icmp .ge 14, 3) := dk_162 0 14 (dk_at dksX8_isFull_0 9 rfl rfl)
theorem dX8_isFull_12 : decode cX8_isFull 12 = .ok (.aload_n 0, 1) := dk_42 (dk_at dksX8_isFull_0 12 rfl rfl)
theorem dX8_isFull_13 : decode cX8_isFull 13 = .ok (.iload_n 1, 1) := dk_27 (dk_at dksX8_isFull_0 13 rfl rfl)
theorem dX8_isFull_14 : decode cX8_isFull 14 = .ok (.invokevirtual 108, 3) := dk_182 0 108 (dk_at dksX8_isFull_0 14 rfl rfl)
theorem dX8_isFull_17 : decode cX8_isFull 17 = .ok (.sipush 999, 3) := dk_17 3 231 (dk_at dksX8_isFull_0 17 rfl rfl)
theorem dX8_isFull_20 : decode cX8_isFull 20 = .ok (.if_icmp .ne 7, 3) := dk_160 0 7 (dk_at dksX8_isFull_0 20 rfl rfl)
theorem dX8_isFull_23 : decode cX8_isFull 23 = .ok (.iconst 1, 1) := dk_4 (dk_at dksX8_isFull_0 23 rfl rfl)
theorem dX8_isFull_24 : decode cX8_isFull 24 = .ok (.goto 4, 3) := dk_167 0 4 (dk_at dksX8_isFull_1 0 rfl rfl)
theorem dX8_isFull_27 : decode cX8_isFull 27 = .ok (.iconst 0, 1) := dk_3 (dk_at dksX8_isFull_1 3 rfl rfl)
theorem dX8_isFull_28 : decode cX8_isFull 28 = .ok (.ireturn, 1) := dk_172 (dk_at dksX8_isFull_1 4 rfl rfl)
abbrev cX8_change : ByteArray := prog_18_method_106_code
def yX8_change : MethodName := ⟨RX8, "change", "(II)I"⟩
def dkwX8_change_4 : List UInt8 := [42, 27, 182, 1, 55, 29, 172]
abbrev dktX8_change_4 : List UInt8 := dkwX8_change_4 ++ []
def dkwX8_change_3 : List UInt8 := [27, 42, 27, 4, 182, 0, 101, 4, 42, 27, 182, 0, 121, 28, 182, 1, 51, 87, 42, 27, 182, 0, 108, 62]
abbrev dktX8_change_3 : List UInt8 := dkwX8_change_3 ++ dktX8_change_4
def dkwX8_change_2 : List UInt8 := [154, 0, 20, 42, 27, 182, 1, 82, 153, 0, 12, 42, 27, 182, 0, 121, 28, 160, 0, 6, 16, 252, 172, 42]
abbrev dktX8_change_2 : List UInt8 := dkwX8_change_2 ++ dktX8_change_3
def dkwX8_change_1 : List UInt8 := [154, 0, 6, 16, 254, 172, 42, 27, 182, 1, 161, 153, 0, 6, 16, 253, 172, 42, 27, 182, 0, 124]
abbrev dktX8_change_1 : List UInt8 := dkwX8_change_1 ++ dktX8_change_2
def dkwX8_change_0 : List UInt8 := [27, 184, 0, 97, 153, 0, 13, 28, 4, 16, 127, 184, 0, 93, 154, 0, 5, 2, 172, 42, 27, 182, 1, 158]
abbrev dktX8_change_0 : List UInt8 := dkwX8_change_0 ++ dktX8_change_1
theorem dksX8_change_0 : cX8_change.data.toList.drop 0 = dktX8_change_0 := by decide +kernel
theorem dksX8_change_1 : cX8_change.data.toList.drop 24 = dktX8_change_1 := dk_seg dksX8_change_0 24 rfl rfl
theorem dksX8_change_2 : cX8_change.data.toList.drop 46 = dktX8_change_2 := dk_seg dksX8_change_1 22 rfl rfl
theorem dksX8_change_3 : cX8_change.data.toList.drop 70 = dktX8_change_3 := dk_seg dksX8_change_2 24 rfl rfl
theorem dksX8_change_4 : cX8_change.data.toList.drop 94 = dktX8_change_4 := dk_seg dksX8_change_3 24 rfl rfl
theorem dX8_change_0 : decode cX8_change 0 = .ok (.iload_n 1, 1) := dk_27 (dk_at dksX8_change_0 0 rfl rfl)
theorem dX8_change_1 : decode cX8_change 1 = .ok (.invokestatic 97, 3) := dk_184 0 97 (dk_at dksX8_change_0 1 rfl rfl)
theorem dX8_change_4 : decode cX8_change 4 = .ok (.ifCond .eq 13, 3) := dk_153 0 13 (dk_at dksX8_change_0 4 rfl rfl)
theorem dX8_change_7 : decode cX8_change 7 = .ok (.iload_n 2, 1) := dk_28 (dk_at dksX8_change_0 7 rfl rfl)
theorem dX8_change_8 : decode cX8_change 8 = .ok (.iconst 1, 1) := dk_4 (dk_at dksX8_change_0 8 rfl rfl)
theorem dX8_change_9 : decode cX8_change 9 = .ok (.bipush 127, 2) := dk_16 127 (dk_at dksX8_change_0 9 rfl rfl)
theorem dX8_change_11 : decode cX8_change 11 = .ok (.invokestatic 93, 3) := dk_184 0 93 (dk_at dksX8_change_0 11 rfl rfl)
theorem dX8_change_14 : decode cX8_change 14 = .ok (.ifCond .ne 5, 3) := dk_154 0 5 (dk_at dksX8_change_0 14 rfl rfl)
theorem dX8_change_17 : decode cX8_change 17 = .ok (.iconst (-1), 1) := dk_2 (dk_at dksX8_change_0 17 rfl rfl)
theorem dX8_change_18 : decode cX8_change 18 = .ok (.ireturn, 1) := dk_172 (dk_at dksX8_change_0 18 rfl rfl)
theorem dX8_change_19 : decode cX8_change 19 = .ok (.aload_n 0, 1) := dk_42 (dk_at dksX8_change_0 19 rfl rfl)
theorem dX8_change_20 : decode cX8_change 20 = .ok (.iload_n 1, 1) := dk_27 (dk_at dksX8_change_0 20 rfl rfl)
theorem dX8_change_21 : decode cX8_change 21 = .ok (.invokevirtual 414, 3) := dk_182 1 158 (dk_at dksX8_change_0 21 rfl rfl)
theorem dX8_change_24 : decode cX8_change 24 = .ok (.ifCond .ne 6, 3) := dk_154 0 6 (dk_at dksX8_change_1 0 rfl rfl)
theorem dX8_change_27 : decode cX8_change 27 = .ok (.bipush (-2), 2) := dk_16 254 (dk_at dksX8_change_1 3 rfl rfl)
theorem dX8_change_29 : decode cX8_change 29 = .ok (.ireturn, 1) := dk_172 (dk_at dksX8_change_1 5 rfl rfl)
theorem dX8_change_30 : decode cX8_change 30 = .ok (.aload_n 0, 1) := dk_42 (dk_at dksX8_change_1 6 rfl rfl)
theorem dX8_change_31 : decode cX8_change 31 = .ok (.iload_n 1, 1) := dk_27 (dk_at dksX8_change_1 7 rfl rfl)
theorem dX8_change_32 : decode cX8_change 32 = .ok (.invokevirtual 417, 3) := dk_182 1 161 (dk_at dksX8_change_1 8 rfl rfl)
theorem dX8_change_35 : decode cX8_change 35 = .ok (.ifCond .eq 6, 3) := dk_153 0 6 (dk_at dksX8_change_1 11 rfl rfl)
theorem dX8_change_38 : decode cX8_change 38 = .ok (.bipush (-3), 2) := dk_16 253 (dk_at dksX8_change_1 14 rfl rfl)
theorem dX8_change_40 : decode cX8_change 40 = .ok (.ireturn, 1) := dk_172 (dk_at dksX8_change_1 16 rfl rfl)
theorem dX8_change_41 : decode cX8_change 41 = .ok (.aload_n 0, 1) := dk_42 (dk_at dksX8_change_1 17 rfl rfl)
theorem dX8_change_42 : decode cX8_change 42 = .ok (.iload_n 1, 1) := dk_27 (dk_at dksX8_change_1 18 rfl rfl)
theorem dX8_change_43 : decode cX8_change 43 = .ok (.invokevirtual 124, 3) := dk_182 0 124 (dk_at dksX8_change_1 19 rfl rfl)
theorem dX8_change_46 : decode cX8_change 46 = .ok (.ifCond .ne 20, 3) := dk_154 0 20 (dk_at dksX8_change_2 0 rfl rfl)
theorem dX8_change_49 : decode cX8_change 49 = .ok (.aload_n 0, 1) := dk_42 (dk_at dksX8_change_2 3 rfl rfl)
theorem dX8_change_50 : decode cX8_change 50 = .ok (.iload_n 1, 1) := dk_27 (dk_at dksX8_change_2 4 rfl rfl)
theorem dX8_change_51 : decode cX8_change 51 = .ok (.invokevirtual 338, 3) := dk_182 1 82 (dk_at dksX8_change_2 5 rfl rfl)
theorem dX8_change_54 : decode cX8_change 54 = .ok (.ifCond .eq 12, 3) := dk_153 0 12 (dk_at dksX8_change_2 8 rfl rfl)
theorem dX8_change_57 : decode cX8_change 57 = .ok (.aload_n 0, 1) := dk_42 (dk_at dksX8_change_2 11 rfl rfl)
theorem dX8_change_58 : decode cX8_change 58 = .ok (.iload_n 1, 1) := dk_27 (dk_at dksX8_change_2 12 rfl rfl)
theorem dX8_change_59 : decode cX8_change 59 = .ok (.invokevirtual 121, 3) := dk_182 0 121 (dk_at dksX8_change_2 13 rfl rfl)
theorem dX8_change_62 : decode cX8_change 62 = .ok (.iload_n 2, 1) := dk_28 (dk_at dksX8_change_2 16 rfl rfl)
theorem dX8_change_63 : decode cX8_change 63 = .ok (.if_icmp .ne 6, 3) := dk_160 0 6 (dk_at dksX8_change_2 17 rfl rfl)
theorem dX8_change_66 : decode cX8_change 66 = .ok (.bipush (-4), 2) := dk_16 252 (dk_at dksX8_change_2 20 rfl rfl)
theorem dX8_change_68 : decode cX8_change 68 = .ok (.ireturn, 1) := dk_172 (dk_at dksX8_change_2 22 rfl rfl)
theorem dX8_change_69 : decode cX8_change 69 = .ok (.aload_n 0, 1) := dk_42 (dk_at dksX8_change_2 23 rfl rfl)
theorem dX8_change_70 : decode cX8_change 70 = .ok (.iload_n 1, 1) := dk_27 (dk_at dksX8_change_3 0 rfl rfl)
theorem dX8_change_71 : decode cX8_change 71 = .ok (.aload_n 0, 1) := dk_42 (dk_at dksX8_change_3 1 rfl rfl)
theorem dX8_change_72 : decode cX8_change 72 = .ok (.iload_n 1, 1) := dk_27 (dk_at dksX8_change_3 2 rfl rfl)
theorem dX8_change_73 : decode cX8_change 73 = .ok (.iconst 1, 1) := dk_4 (dk_at dksX8_change_3 3 rfl rfl)
theorem dX8_change_74 : decode cX8_change 74 = .ok (.invokevirtual 101, 3) := dk_182 0 101 (dk_at dksX8_change_3 4 rfl rfl)
theorem dX8_change_77 : decode cX8_change 77 = .ok (.iconst 1, 1) := dk_4 (dk_at dksX8_change_3 7 rfl rfl)
theorem dX8_change_78 : decode cX8_change 78 = .ok (.aload_n 0, 1) := dk_42 (dk_at dksX8_change_3 8 rfl rfl)
theorem dX8_change_79 : decode cX8_change 79 = .ok (.iload_n 1, 1) := dk_27 (dk_at dksX8_change_3 9 rfl rfl)
theorem dX8_change_80 : decode cX8_change 80 = .ok (.invokevirtual 121, 3) := dk_182 0 121 (dk_at dksX8_change_3 10 rfl rfl)
theorem dX8_change_83 : decode cX8_change 83 = .ok (.iload_n 2, 1) := dk_28 (dk_at dksX8_change_3 13 rfl rfl)
theorem dX8_change_84 : decode cX8_change 84 = .ok (.invokevirtual 307, 3) := dk_182 1 51 (dk_at dksX8_change_3 14 rfl rfl)
theorem dX8_change_87 : decode cX8_change 87 = .ok (.pop, 1) := dk_87 (dk_at dksX8_change_3 17 rfl rfl)
theorem dX8_change_88 : decode cX8_change 88 = .ok (.aload_n 0, 1) := dk_42 (dk_at dksX8_change_3 18 rfl rfl)
theorem dX8_change_89 : decode cX8_change 89 = .ok (.iload_n 1, 1) := dk_27 (dk_at dksX8_change_3 19 rfl rfl)
theorem dX8_change_90 : decode cX8_change 90 = .ok (.invokevirtual 108, 3) := dk_182 0 108 (dk_at dksX8_change_3 20 rfl rfl)
theorem dX8_change_93 : decode cX8_change 93 = .ok (.istore_n 3, 1) := dk_62 (dk_at dksX8_change_3 23 rfl rfl)
theorem dX8_change_94 : decode cX8_change 94 = .ok (.aload_n 0, 1) := dk_42 (dk_at dksX8_change_4 0 rfl rfl)
theorem dX8_change_95 : decode cX8_change 95 = .ok (.iload_n 1, 1) := dk_27 (dk_at dksX8_change_4 1 rfl rfl)
theorem dX8_change_96 : decode cX8_change 96 = .ok (.invokevirtual 311, 3) := dk_182 1 55 (dk_at dksX8_change_4 2 rfl rfl)
theorem dX8_change_99 : decode cX8_change 99 = .ok (.iload_n 3, 1) := dk_29 (dk_at dksX8_change_4 5 rfl rfl)
theorem dX8_change_100 : decode cX8_change 100 = .ok (.ireturn, 1) := dk_172 (dk_at dksX8_change_4 6 rfl rfl)
abbrev cX8_ask : ByteArray := prog_18_method_107_code
def yX8_ask : MethodName := ⟨RX8, "ask", "(II)I"⟩
def dkwX8_ask_8 : List UInt8 := [8, 96, 3, 79, 42, 180, 0, 7, 17, 43, 127, 29, 4, 96, 79, 42, 27, 182, 1, 131, 29, 172]
abbrev dktX8_ask_8 : List UInt8 := dkwX8_ask_8 ++ []
def dkwX8_ask_7 : List UInt8 := [17, 43, 20, 16, 6, 29, 104, 96, 7, 96, 3, 79, 42, 180, 0, 7, 17, 43, 20, 16, 6, 29, 104, 96]
abbrev dktX8_ask_7 : List UInt8 := dkwX8_ask_7 ++ dktX8_ask_8
def dkwX8_ask_6 : List UInt8 := [17, 43, 20, 16, 6, 29, 104, 96, 6, 96, 42, 180, 0, 7, 17, 43, 126, 46, 79, 42, 180, 0, 7]
abbrev dktX8_ask_6 : List UInt8 := dkwX8_ask_6 ++ dktX8_ask_7
def dkwX8_ask_5 : List UInt8 := [17, 43, 20, 16, 6, 29, 104, 96, 5, 96, 42, 27, 16, 13, 182, 0, 101, 79, 42, 180, 0, 7]
abbrev dktX8_ask_5 : List UInt8 := dkwX8_ask_5 ++ dktX8_ask_6
def dkwX8_ask_4 : List UInt8 := [27, 79, 42, 180, 0, 7, 17, 43, 20, 16, 6, 29, 104, 96, 4, 96, 28, 79, 42, 180, 0, 7]
abbrev dktX8_ask_4 : List UInt8 := dkwX8_ask_4 ++ dktX8_ask_5
def dkwX8_ask_3 : List UInt8 := [182, 1, 146, 42, 180, 0, 7, 17, 43, 127, 46, 62, 42, 180, 0, 7, 17, 43, 20, 16, 6, 29, 104, 96]
abbrev dktX8_ask_3 : List UInt8 := dkwX8_ask_3 ++ dktX8_ask_4
def dkwX8_ask_2 : List UInt8 := [42, 27, 16, 9, 182, 0, 101, 182, 0, 137, 42, 27, 4, 182, 0, 101, 159, 0, 6, 16, 252, 172, 42, 27]
abbrev dktX8_ask_2 : List UInt8 := dkwX8_ask_2 ++ dktX8_ask_3
def dkwX8_ask_1 : List UInt8 := [154, 0, 6, 16, 254, 172, 42, 180, 0, 7, 17, 43, 127, 46, 16, 16, 160, 0, 6, 16, 253, 172, 42, 27]
abbrev dktX8_ask_1 : List UInt8 := dkwX8_ask_1 ++ dktX8_ask_2
def dkwX8_ask_0 : List UInt8 := [27, 184, 0, 97, 153, 0, 13, 28, 3, 16, 7, 184, 0, 93, 154, 0, 5, 2, 172, 42, 27, 182, 1, 158]
abbrev dktX8_ask_0 : List UInt8 := dkwX8_ask_0 ++ dktX8_ask_1
theorem dksX8_ask_0 : cX8_ask.data.toList.drop 0 = dktX8_ask_0 := by decide +kernel
theorem dksX8_ask_1 : cX8_ask.data.toList.drop 24 = dktX8_ask_1 := dk_seg dksX8_ask_0 24 rfl rfl
theorem dksX8_ask_2 : cX8_ask.data.toList.drop 48 = dktX8_ask_2 := dk_seg dksX8_ask_1 24 rfl rfl
theorem dksX8_ask_3 : cX8_ask.data.toList.drop 72 = dktX8_ask_3 := dk_seg dksX8_ask_2 24 rfl rfl
theorem dksX8_ask_4 : cX8_ask.data.toList.drop 96 = dktX8_ask_4 := dk_seg dksX8_ask_3 24 rfl rfl
theorem dksX8_ask_5 : cX8_ask.data.toList.drop 118 = dktX8_ask_5 := dk_seg dksX8_ask_4 22 rfl rfl
theorem dksX8_ask_6 : cX8_ask.data.toList.drop 140 = dktX8_ask_6 := dk_seg dksX8_ask_5 22 rfl rfl
theorem dksX8_ask_7 : cX8_ask.data.toList.drop 163 = dktX8_ask_7 := dk_seg dksX8_ask_6 23 rfl rfl
theorem dksX8_ask_8 : cX8_ask.data.toList.drop 187 = dktX8_ask_8 := dk_seg dksX8_ask_7 24 rfl rfl
theorem dX8_ask_0 : decode cX8_ask 0 = .ok (.iload_n 1, 1) := dk_27 (dk_at dksX8_ask_0 0 rfl rfl)
theorem dX8_ask_1 : decode cX8_ask 1 = .ok (.invokestatic 97, 3) := dk_184 0 97 (dk_at dksX8_ask_0 1 rfl rfl)
theorem dX8_ask_4 : decode cX8_ask 4 = .ok (.ifCond .eq 13, 3) := dk_153 0 13 (dk_at dksX8_ask_0 4 rfl rfl)
theorem dX8_ask_7 : decode cX8_ask 7 = .ok (.iload_n 2, 1) := dk_28 (dk_at dksX8_ask_0 7 rfl rfl)
theorem dX8_ask_8 : decode cX8_ask 8 = .ok (.iconst 0, 1) := dk_3 (dk_at dksX8_ask_0 8 rfl rfl)
theorem dX8_ask_9 : decode cX8_ask 9 = .ok (.bipush 7, 2) := dk_16 7 (dk_at dksX8_ask_0 9 rfl rfl)
theorem dX8_ask_11 : decode cX8_ask 11 = .ok (.invokestatic 93, 3) := dk_184 0 93 (dk_at dksX8_ask_0 11 rfl rfl)
theorem dX8_ask_14 : decode cX8_ask 14 = .ok (.ifCond .ne 5, 3) := dk_154 0 5 (dk_at dksX8_ask_0 14 rfl rfl)
theorem dX8_ask_17 : decode cX8_ask 17 = .ok (.iconst (-1), 1) := dk_2 (dk_at dksX8_ask_0 17 rfl rfl)
theorem dX8_ask_18 : decode cX8_ask 18 = .ok (.ireturn, 1) := dk_172 (dk_at dksX8_ask_0 18 rfl rfl)
theorem dX8_ask_19 : decode cX8_ask 19 = .ok (.aload_n 0, 1) := dk_42 (dk_at dksX8_ask_0 19 rfl rfl)
theorem dX8_ask_20 : decode cX8_ask 20 = .ok (.iload_n 1, 1) := dk_27 (dk_at dksX8_ask_0 20 rfl rfl)
theorem dX8_ask_21 : decode cX8_ask 21 = .ok (.invokevirtual 414, 3) := dk_182 1 158 (dk_at dksX8_ask_0 21 rfl rfl)
theorem dX8_ask_24 : decode cX8_ask 24 = .ok (.ifCond .ne 6, 3) := dk_154 0 6 (dk_at dksX8_ask_1 0 rfl rfl)
theorem dX8_ask_27 : decode cX8_ask 27 = .ok (.bipush (-2), 2) := dk_16 254 (dk_at dksX8_ask_1 3 rfl rfl)
theorem dX8_ask_29 : decode cX8_ask 29 = .ok (.ireturn, 1) := dk_172 (dk_at dksX8_ask_1 5 rfl rfl)
theorem dX8_ask_30 : decode cX8_ask 30 = .ok (.aload_n 0, 1) := dk_42 (dk_at dksX8_ask_1 6 rfl rfl)
theorem dX8_ask_31 : decode cX8_ask 31 = .ok (.getfield 7, 3) := dk_180 0 7 (dk_at dksX8_ask_1 7 rfl rfl)
theorem dX8_ask_34 : decode cX8_ask 34 = .ok (.sipush 11135, 3) := dk_17 43 127 (dk_at dksX8_ask_1 10 rfl rfl)
theorem dX8_ask_37 : decode cX8_ask 37 = .ok (.iaload, 1) := dk_46 (dk_at dksX8_ask_1 13 rfl rfl)
theorem dX8_ask_38 : decode cX8_ask 38 = .ok (.bipush 16, 2) := dk_16 16 (dk_at dksX8_ask_1 14 rfl rfl)
theorem dX8_ask_40 : decode cX8_ask 40 = .ok (.if_icmp .ne 6, 3) := dk_160 0 6 (dk_at dksX8_ask_1 16 rfl rfl)
theorem dX8_ask_43 : decode cX8_ask 43 = .ok (.bipush (-3), 2) := dk_16 253 (dk_at dksX8_ask_1 19 rfl rfl)
theorem dX8_ask_45 : decode cX8_ask 45 = .ok (.ireturn, 1) := dk_172 (dk_at dksX8_ask_1 21 rfl rfl)
theorem dX8_ask_46 : decode cX8_ask 46 = .ok (.aload_n 0, 1) := dk_42 (dk_at dksX8_ask_1 22 rfl rfl)
theorem dX8_ask_47 : decode cX8_ask 47 = .ok (.iload_n 1, 1) := dk_27 (dk_at dksX8_ask_1 23 rfl rfl)
theorem dX8_ask_48 : decode cX8_ask 48 = .ok (.aload_n 0, 1) := dk_42 (dk_at dksX8_ask_2 0 rfl rfl)
theorem dX8_ask_49 : decode cX8_ask 49 = .ok (.iload_n 1, 1) := dk_27 (dk_at dksX8_ask_2 1 rfl rfl)
theorem dX8_ask_50 : decode cX8_ask 50 = .ok (.bipush 9, 2) := dk_16 9 (dk_at dksX8_ask_2 2 rfl rfl)
theorem dX8_ask_52 : decode cX8_ask 52 = .ok (.invokevirtual 101, 3) := dk_182 0 101 (dk_at dksX8_ask_2 4 rfl rfl)
theorem dX8_ask_55 : decode cX8_ask 55 = .ok (.invokevirtual 137, 3) := dk_182 0 137 (dk_at dksX8_ask_2 7 rfl rfl)
theorem dX8_ask_58 : decode cX8_ask 58 = .ok (.aload_n 0, 1) := dk_42 (dk_at dksX8_ask_2 10 rfl rfl)
theorem dX8_ask_59 : decode cX8_ask 59 = .ok (.iload_n 1, 1) := dk_27 (dk_at dksX8_ask_2 11 rfl rfl)
theorem dX8_ask_60 : decode cX8_ask 60 = .ok (.iconst 1, 1) := dk_4 (dk_at dksX8_ask_2 12 rfl rfl)
theorem dX8_ask_61 : decode cX8_ask 61 = .ok (.invokevirtual 101, 3) := dk_182 0 101 (dk_at dksX8_ask_2 13 rfl rfl)
theorem dX8_ask_64 : decode cX8_ask 64 = .ok (.if_icmp .eq 6, 3) := dk_159 0 6 (dk_at dksX8_ask_2 16 rfl rfl)
theorem dX8_ask_67 : decode cX8_ask 67 = .ok (.bipush (-4), 2) := dk_16 252 (dk_at dksX8_ask_2 19 rfl rfl)
theorem dX8_ask_69 : decode cX8_ask 69 = .ok (.ireturn, 1) := dk_172 (dk_at dksX8_ask_2 21 rfl rfl)
theorem dX8_ask_70 : decode cX8_ask 70 = .ok (.aload_n 0, 1) := dk_42 (dk_at dksX8_ask_2 22 rfl rfl)
theorem dX8_ask_71 : decode cX8_ask 71 = .ok (.iload_n 1, 1) := dk_27 (dk_at dksX8_ask_2 23 rfl rfl)
theorem dX8_ask_72 : decode cX8_ask 72 = .ok (.invokevirtual 402, 3) := dk_182 1 146 (dk_at dksX8_ask_3 0 rfl rfl)
theorem dX8_ask_75 : decode cX8_ask 75 = .ok (.aload_n 0, 1) := dk_42 (dk_at dksX8_ask_3 3 rfl rfl)
theorem dX8_ask_76 : decode cX8_ask 76 = .ok (.getfield 7, 3) := dk_180 0 7 (dk_at dksX8_ask_3 4 rfl rfl)
theorem dX8_ask_79 : decode cX8_ask 79 = .ok (.sipush 11135, 3) := dk_17 43 127 (dk_at dksX8_ask_3 7 rfl rfl)
theorem dX8_ask_82 : decode cX8_ask 82 = .ok (.iaload, 1) := dk_46 (dk_at dksX8_ask_3 10 rfl rfl)
theorem dX8_ask_83 : decode cX8_ask 83 = .ok (.istore_n 3, 1) := dk_62 (dk_at dksX8_ask_3 11 rfl rfl)
theorem dX8_ask_84 : decode cX8_ask 84 = .ok (.aload_n 0, 1) := dk_42 (dk_at dksX8_ask_3 12 rfl rfl)
theorem dX8_ask_85 : decode cX8_ask 85 = .ok (.getfield 7, 3) := dk_180 0 7 (dk_at dksX8_ask_3 13 rfl rfl)
theorem dX8_ask_88 : decode cX8_ask 88 = .ok (.sipush 11028, 3) := dk_17 43 20 (dk_at dksX8_ask_3 16 rfl rfl)
theorem dX8_ask_91 : decode cX8_ask 91 = .ok (.bipush 6, 2) := dk_16 6 (dk_at dksX8_ask_3 19 rfl rfl)
theorem dX8_ask_93 : decode cX8_ask 93 = .ok (.iload_n 3, 1) := dk_29 (dk_at dksX8_ask_3 21 rfl rfl)
theorem dX8_ask_94 : decode cX8_ask 94 = .ok (.imul, 1) := dk_104 (dk_at dksX8_ask_3 22 rfl rfl)
theorem dX8_ask_95 : decode cX8_ask 95 = .ok (.iadd, 1) := dk_96 (dk_at dksX8_ask_3 23 rfl rfl)
theorem dX8_ask_96 : decode cX8_ask 96 = .ok (.iload_n 1, 1) := dk_27 (dk_at dksX8_ask_4 0 rfl rfl)
theorem dX8_ask_97 : decode cX8_ask 97 = .ok (.iastore, 1) := dk_79 (dk_at dksX8_ask_4 1 rfl rfl)
theorem dX8_ask_98 : decode cX8_ask 98 = .ok (.aload_n 0, 1) := dk_42 (dk_at dksX8_ask_4 2 rfl rfl)
theorem dX8_ask_99 : decode cX8_ask 99 = .ok (.getfield 7, 3) := dk_180 0 7 (dk_at dksX8_ask_4 3 rfl rfl)
theorem dX8_ask_102 : decode cX8_ask 102 = .ok (.sipush 11028, 3) := dk_17 43 20 (dk_at dksX8_ask_4 6 rfl rfl)
theorem dX8_ask_105 : decode cX8_ask 105 = .ok (.bipush 6, 2) := dk_16 6 (dk_at dksX8_ask_4 9 rfl rfl)
theorem dX8_ask_107 : decode cX8_ask 107 = .ok (.iload_n 3, 1) := dk_29 (dk_at dksX8_ask_4 11 rfl rfl)
theorem dX8_ask_108 : decode cX8_ask 108 = .ok (.imul, 1) := dk_104 (dk_at dksX8_ask_4 12 rfl rfl)
theorem dX8_ask_109 : decode cX8_ask 109 = .ok (.iadd, 1) := dk_96 (dk_at dksX8_ask_4 13 rfl rfl)
theorem dX8_ask_110 : decode cX8_ask 110 = .ok (.iconst 1, 1) := dk_4 (dk_at dksX8_ask_4 14 rfl rfl)
theorem dX8_ask_111 : decode cX8_ask 111 = .ok (.iadd, 1) := dk_96 (dk_at dksX8_ask_4 15 rfl rfl)
theorem dX8_ask_112 : decode cX8_ask 112 = .ok (.iload_n 2, 1) := dk_28 (dk_at dksX8_ask_4 16 rfl rfl)
theorem dX8_ask_113 : decode cX8_ask 113 = .ok (.iastore, 1) := dk_79 (dk_at dksX8_ask_4 17 rfl rfl)
theorem dX8_ask_114 : decode cX8_ask 114 = .ok (.aload_n 0, 1) := dk_42 (dk_at dksX8_ask_4 18 rfl rfl)
theorem dX8_ask_115 : decode cX8_ask 115 = .ok (.getfield 7, 3) := dk_180 0 7 (dk_at dksX8_ask_4 19 rfl rfl)
theorem dX8_ask_118 : decode cX8_ask 118 = .ok (.sipush 11028, 3) := dk_17 43 20 (dk_at dksX8_ask_5 0 rfl rfl)
theorem dX8_ask_121 : decode cX8_ask 121 = .ok (.bipush 6, 2) := dk_16 6 (dk_at dksX8_ask_5 3 rfl rfl)
theorem dX8_ask_123 : decode cX8_ask 123 = .ok (.iload_n 3, 1) := dk_29 (dk_at dksX8_ask_5 5 rfl rfl)
theorem dX8_ask_124 : decode cX8_ask 124 = .ok (.imul, 1) := dk_104 (dk_at dksX8_ask_5 6 rfl rfl)
theorem dX8_ask_125 : decode cX8_ask 125 = .ok (.iadd, 1) := dk_96 (dk_at dksX8_ask_5 7 rfl rfl)
theorem dX8_ask_126 : decode cX8_ask 126 = .ok (.iconst 2, 1) := dk_5 (dk_at dksX8_ask_5 8 rfl rfl)
theorem dX8_ask_127 : decode cX8_ask 127 = .ok (.iadd, 1) := dk_96 (dk_at dksX8_ask_5 9 rfl rfl)
theorem dX8_ask_128 : decode cX8_ask 128 = .ok (.aload_n 0, 1) := dk_42 (dk_at dksX8_ask_5 10 rfl rfl)
theorem dX8_ask_129 : decode cX8_ask 129 = .ok (.iload_n 1, 1) := dk_27 (dk_at dksX8_ask_5 11 rfl rfl)
theorem dX8_ask_130 : decode cX8_ask 130 = .ok (.bipush 13, 2) := dk_16 13 (dk_at dksX8_ask_5 12 rfl rfl)
theorem dX8_ask_132 : decode cX8_ask 132 = .ok (.invokevirtual 101, 3) := dk_182 0 101 (dk_at dksX8_ask_5 14 rfl rfl)
theorem dX8_ask_135 : decode cX8_ask 135 = .ok (.iastore, 1) := dk_79 (dk_at dksX8_ask_5 17 rfl rfl)
theorem dX8_ask_136 : decode cX8_ask 136 = .ok (.aload_n 0, 1) := dk_42 (dk_at dksX8_ask_5 18 rfl rfl)
theorem dX8_ask_137 : decode cX8_ask 137 = .ok (.getfield 7, 3) := dk_180 0 7 (dk_at dksX8_ask_5 19 rfl rfl)
theorem dX8_ask_140 : decode cX8_ask 140 = .ok (.sipush 11028, 3) := dk_17 43 20 (dk_at dksX8_ask_6 0 rfl rfl)
theorem dX8_ask_143 : decode cX8_ask 143 = .ok (.bipush 6, 2) := dk_16 6 (dk_at dksX8_ask_6 3 rfl rfl)
theorem dX8_ask_145 : decode cX8_ask 145 = .ok (.iload_n 3, 1) := dk_29 (dk_at dksX8_ask_6 5 rfl rfl)
theorem dX8_ask_146 : decode cX8_ask 146 = .ok (.imul, 1) := dk_104 (dk_at dksX8_ask_6 6 rfl rfl)
theorem dX8_ask_147 : decode cX8_ask 147 = .ok (.iadd, 1) := dk_96 (dk_at dksX8_ask_6 7 rfl rfl)
theorem dX8_ask_148 : decode cX8_ask 148 = .ok (.iconst 3, 1) := dk_6 (dk_at dksX8_ask_6 8 rfl rfl)
theorem dX8_ask_149 : decode cX8_ask 149 = .ok (.iadd, 1) := dk_96 (dk_at dksX8_ask_6 9 rfl rfl)
theorem dX8_ask_150 : decode cX8_ask 150 = .ok (.aload_n 0, 1) := dk_42 (dk_at dksX8_ask_6 10 rfl rfl)
theorem dX8_ask_151 : decode cX8_ask 151 = .ok (.getfield 7, 3) := dk_180 0 7 (dk_at dksX8_ask_6 11 rfl rfl)
theorem dX8_ask_154 : decode cX8_ask 154 = .ok (.sipush 11134, 3) := dk_17 43 126 (dk_at dksX8_ask_6 14 rfl rfl)
theorem dX8_ask_157 : decode cX8_ask 157 = .ok (.iaload, 1) := dk_46 (dk_at dksX8_ask_6 17 rfl rfl)
theorem dX8_ask_158 : decode cX8_ask 158 = .ok (.iastore, 1) := dk_79 (dk_at dksX8_ask_6 18 rfl rfl)
theorem dX8_ask_159 : decode cX8_ask 159 = .ok (.aload_n 0, 1) := dk_42 (dk_at dksX8_ask_6 19 rfl rfl)
theorem dX8_ask_160 : decode cX8_ask 160 = .ok (.getfield 7, 3) := dk_180 0 7 (dk_at dksX8_ask_6 20 rfl rfl)
theorem dX8_ask_163 : decode cX8_ask 163 = .ok (.sipush 11028, 3) := dk_17 43 20 (dk_at dksX8_ask_7 0 rfl rfl)
theorem dX8_ask_166 : decode cX8_ask 166 = .ok (.bipush 6, 2) := dk_16 6 (dk_at dksX8_ask_7 3 rfl rfl)
theorem dX8_ask_168 : decode cX8_ask 168 = .ok (.iload_n 3, 1) := dk_29 (dk_at dksX8_ask_7 5 rfl rfl)
theorem dX8_ask_169 : decode cX8_ask 169 = .ok (.imul, 1) := dk_104 (dk_at dksX8_ask_7 6 rfl rfl)
theorem dX8_ask_170 : decode cX8_ask 170 = .ok (.iadd, 1) := dk_96 (dk_at dksX8_ask_7 7 rfl rfl)
theorem dX8_ask_171 : decode cX8_ask 171 = .ok (.iconst 4, 1) := dk_7 (dk_at dksX8_ask_7 8 rfl rfl)
theorem dX8_ask_172 : decode cX8_ask 172 = .ok (.iadd, 1) := dk_96 (dk_at dksX8_ask_7 9 rfl rfl)
theorem dX8_ask_173 : decode cX8_ask 173 = .ok (.iconst 0, 1) := dk_3 (dk_at dksX8_ask_7 10 rfl rfl)
theorem dX8_ask_174 : decode cX8_ask 174 = .ok (.iastore, 1) := dk_79 (dk_at dksX8_ask_7 11 rfl rfl)
theorem dX8_ask_175 : decode cX8_ask 175 = .ok (.aload_n 0, 1) := dk_42 (dk_at dksX8_ask_7 12 rfl rfl)
theorem dX8_ask_176 : decode cX8_ask 176 = .ok (.getfield 7, 3) := dk_180 0 7 (dk_at dksX8_ask_7 13 rfl rfl)
theorem dX8_ask_179 : decode cX8_ask 179 = .ok (.sipush 11028, 3) := dk_17 43 20 (dk_at dksX8_ask_7 16 rfl rfl)
theorem dX8_ask_182 : decode cX8_ask 182 = .ok (.bipush 6, 2) := dk_16 6 (dk_at dksX8_ask_7 19 rfl rfl)
theorem dX8_ask_184 : decode cX8_ask 184 = .ok (.iload_n 3, 1) := dk_29 (dk_at dksX8_ask_7 21 rfl rfl)
theorem dX8_ask_185 : decode cX8_ask 185 = .ok (.imul, 1) := dk_104 (dk_at dksX8_ask_7 22 rfl rfl)
theorem dX8_ask_186 : decode cX8_ask 186 = .ok (.iadd, 1) := dk_96 (dk_at dksX8_ask_7 23 rfl rfl)
theorem dX8_ask_187 : decode cX8_ask 187 = .ok (.iconst 5, 1) := dk_8 (dk_at dksX8_ask_8 0 rfl rfl)
theorem dX8_ask_188 : decode cX8_ask 188 = .ok (.iadd, 1) := dk_96 (dk_at dksX8_ask_8 1 rfl rfl)
theorem dX8_ask_189 : decode cX8_ask 189 = .ok (.iconst 0, 1) := dk_3 (dk_at dksX8_ask_8 2 rfl rfl)
theorem dX8_ask_190 : decode cX8_ask 190 = .ok (.iastore, 1) := dk_79 (dk_at dksX8_ask_8 3 rfl rfl)
theorem dX8_ask_191 : decode cX8_ask 191 = .ok (.aload_n 0, 1) := dk_42 (dk_at dksX8_ask_8 4 rfl rfl)
theorem dX8_ask_192 : decode cX8_ask 192 = .ok (.getfield 7, 3) := dk_180 0 7 (dk_at dksX8_ask_8 5 rfl rfl)
theorem dX8_ask_195 : decode cX8_ask 195 = .ok (.sipush 11135, 3) := dk_17 43 127 (dk_at dksX8_ask_8 8 rfl rfl)
theorem dX8_ask_198 : decode cX8_ask 198 = .ok (.iload_n 3, 1) := dk_29 (dk_at dksX8_ask_8 11 rfl rfl)
theorem dX8_ask_199 : decode cX8_ask 199 = .ok (.iconst 1, 1) := dk_4 (dk_at dksX8_ask_8 12 rfl rfl)
theorem dX8_ask_200 : decode cX8_ask 200 = .ok (.iadd, 1) := dk_96 (dk_at dksX8_ask_8 13 rfl rfl)
theorem dX8_ask_201 : decode cX8_ask 201 = .ok (.iastore, 1) := dk_79 (dk_at dksX8_ask_8 14 rfl rfl)
theorem dX8_ask_202 : decode cX8_ask 202 = .ok (.aload_n 0, 1) := dk_42 (dk_at dksX8_ask_8 15 rfl rfl)
theorem dX8_ask_203 : decode cX8_ask 203 = .ok (.iload_n 1, 1) := dk_27 (dk_at dksX8_ask_8 16 rfl rfl)
theorem dX8_ask_204 : decode cX8_ask 204 = .ok (.invokevirtual 387, 3) := dk_182 1 131 (dk_at dksX8_ask_8 17 rfl rfl)
theorem dX8_ask_207 : decode cX8_ask 207 = .ok (.iload_n 3, 1) := dk_29 (dk_at dksX8_ask_8 20 rfl rfl)
theorem dX8_ask_208 : decode cX8_ask 208 = .ok (.ireturn, 1) := dk_172 (dk_at dksX8_ask_8 21 rfl rfl)
abbrev cX8_plan : ByteArray := prog_18_method_115_code
def yX8_plan : MethodName := ⟨RX8, "plan", "(I)I"⟩
def dkwX8_plan_5 : List UInt8 := [167, 255, 231, 29, 172]
abbrev dktX8_plan_5 : List UInt8 := dkwX8_plan_5 ++ []
def dkwX8_plan_4 : List UInt8 := [42, 180, 1, 170, 162, 0, 22, 42, 21, 4, 182, 1, 222, 153, 0, 7, 29, 4, 96, 62, 132, 4, 1]
abbrev dktX8_plan_4 : List UInt8 := dkwX8_plan_4 ++ dktX8_plan_5
def dkwX8_plan_3 : List UInt8 := [167, 255, 229, 42, 3, 181, 0, 147, 28, 154, 0, 8, 42, 180, 0, 164, 172, 3, 62, 3, 54, 4, 21, 4]
abbrev dktX8_plan_3 : List UInt8 := dkwX8_plan_3 ++ dktX8_plan_4
def dkwX8_plan_2 : List UInt8 := [180, 0, 154, 42, 180, 0, 157, 161, 0, 10, 42, 180, 1, 188, 158, 0, 11, 42, 182, 1, 219, 61]
abbrev dktX8_plan_2 : List UInt8 := dkwX8_plan_2 ++ dktX8_plan_3
def dkwX8_plan_1 : List UInt8 := [182, 0, 237, 42, 3, 181, 1, 170, 42, 3, 181, 1, 188, 42, 182, 1, 219, 61, 28, 153, 0, 29, 42]
abbrev dktX8_plan_1 : List UInt8 := dkwX8_plan_1 ++ dktX8_plan_2
def dkwX8_plan_0 : List UInt8 := [27, 4, 16, 120, 184, 0, 93, 153, 0, 11, 27, 42, 180, 0, 147, 164, 0, 5, 2, 172, 42, 27]
abbrev dktX8_plan_0 : List UInt8 := dkwX8_plan_0 ++ dktX8_plan_1
theorem dksX8_plan_0 : cX8_plan.data.toList.drop 0 = dktX8_plan_0 := by decide +kernel
theorem dksX8_plan_1 : cX8_plan.data.toList.drop 22 = dktX8_plan_1 := dk_seg dksX8_plan_0 22 rfl rfl
theorem dksX8_plan_2 : cX8_plan.data.toList.drop 45 = dktX8_plan_2 := dk_seg dksX8_plan_1 23 rfl rfl
theorem dksX8_plan_3 : cX8_plan.data.toList.drop 67 = dktX8_plan_3 := dk_seg dksX8_plan_2 22 rfl rfl
theorem dksX8_plan_4 : cX8_plan.data.toList.drop 91 = dktX8_plan_4 := dk_seg dksX8_plan_3 24 rfl rfl
theorem dksX8_plan_5 : cX8_plan.data.toList.drop 114 = dktX8_plan_5 := dk_seg dksX8_plan_4 23 rfl rfl
theorem dX8_plan_0 : decode cX8_plan 0 = .ok (.iload_n 1, 1) := dk_27 (dk_at dksX8_plan_0 0 rfl rfl)
theorem dX8_plan_1 : decode cX8_plan 1 = .ok (.iconst 1, 1) := dk_4 (dk_at dksX8_plan_0 1 rfl rfl)
theorem dX8_plan_2 : decode cX8_plan 2 = .ok (.bipush 120, 2) := dk_16 120 (dk_at dksX8_plan_0 2 rfl rfl)
theorem dX8_plan_4 : decode cX8_plan 4 = .ok (.invokestatic 93, 3) := dk_184 0 93 (dk_at dksX8_plan_0 4 rfl rfl)
theorem dX8_plan_7 : decode cX8_plan 7 = .ok (.ifCond .eq 11, 3) := dk_153 0 11 (dk_at dksX8_plan_0 7 rfl rfl)
theorem dX8_plan_10 : decode cX8_plan 10 = .ok (.iload_n 1, 1) := dk_27 (dk_at dksX8_plan_0 10 rfl rfl)
theorem dX8_plan_11 : decode cX8_plan 11 = .ok (.aload_n 0, 1) := dk_42 (dk_at dksX8_plan_0 11 rfl rfl)
theorem dX8_plan_12 : decode cX8_plan 12 = .ok (.getfield 147, 3) := dk_180 0 147 (dk_at dksX8_plan_0 12 rfl rfl)
theorem dX8_plan_15 : decode cX8_plan 15 = .ok (.if_icmp .le 5, 3) := dk_164 0 5 (dk_at dksX8_plan_0 15 rfl rfl)
theorem dX8_plan_18 : decode cX8_plan 18 = .ok (.iconst (-1), 1) := dk_2 (dk_at dksX8_plan_0 18 rfl rfl)
theorem dX8_plan_19 : decode cX8_plan 19 = .ok (.ireturn, 1) := dk_172 (dk_at dksX8_plan_0 19 rfl rfl)
theorem dX8_plan_20 : decode cX8_plan 20 = .ok (.aload_n 0, 1) := dk_42 (dk_at dksX8_plan_0 20 rfl rfl)
theorem dX8_plan_21 : decode cX8_plan 21 = .ok (.iload_n 1, 1) := dk_27 (dk_at dksX8_plan_0 21 rfl rfl)
theorem dX8_plan_22 : decode cX8_plan 22 = .ok (.invokevirtual 237, 3) := dk_182 0 237 (dk_at dksX8_plan_1 0 rfl rfl)
theorem dX8_plan_25 : decode cX8_plan 25 = .ok (.aload_n 0, 1) := dk_42 (dk_at dksX8_plan_1 3 rfl rfl)
theorem dX8_plan_26 : decode cX8_plan 26 = .ok (.iconst 0, 1) := dk_3 (dk_at dksX8_plan_1 4 rfl rfl)
theorem dX8_plan_27 : decode cX8_plan 27 = .ok (.putfield 426, 3) := dk_181 1 170 (dk_at dksX8_plan_1 5 rfl rfl)
theorem dX8_plan_30 : decode cX8_plan 30 = .ok (.aload_n 0, 1) := dk_42 (dk_at dksX8_plan_1 8 rfl rfl)
theorem dX8_plan_31 : decode cX8_plan 31 = .ok (.iconst 0, 1) := dk_3 (dk_at dksX8_plan_1 9 rfl rfl)
theorem dX8_plan_32 : decode cX8_plan 32 = .ok (.putfield 444, 3) := dk_181 1 188 (dk_at dksX8_plan_1 10 rfl rfl)
theorem dX8_plan_35 : decode cX8_plan 35 = .ok (.aload_n 0, 1) := dk_42 (dk_at dksX8_plan_1 13 rfl rfl)
theorem dX8_plan_36 : decode cX8_plan 36 = .ok (.invokevirtual 475, 3) := dk_182 1 219 (dk_at dksX8_plan_1 14 rfl rfl)
theorem dX8_plan_39 : decode cX8_plan 39 = .ok (.istore_n 2, 1) := dk_61 (dk_at dksX8_plan_1 17 rfl rfl)
theorem dX8_plan_40 : decode cX8_plan 40 = .ok (.iload_n 2, 1) := dk_28 (dk_at dksX8_plan_1 18 rfl rfl)
theorem dX8_plan_41 : decode cX8_plan 41 = .ok (.ifCond .eq 29, 3) := dk_153 0 29 (dk_at dksX8_plan_1 19 rfl rfl)
theorem dX8_plan_44 : decode cX8_plan 44 = .ok (.aload_n 0, 1) := dk_42 (dk_at dksX8_plan_1 22 rfl rfl)
theorem dX8_plan_45 : decode cX8_plan 45 = .ok (.getfield 154, 3) := dk_180 0 154 (dk_at dksX8_plan_2 0 rfl rfl)
theorem dX8_plan_48 : decode cX8_plan 48 = .ok (.aload_n 0, 1) := dk_42 (dk_at dksX8_plan_2 3 rfl rfl)
theorem dX8_plan_49 : decode cX8_plan 49 = .ok (.getfield 157, 3) := dk_180 0 157 (dk_at dksX8_plan_2 4 rfl rfl)
theorem dX8_plan_52 : decode cX8_plan 52 = .ok (.if_icmp .lt 10, 3) := dk_161 0 10 (dk_at dksX8_plan_2 7 rfl rfl)
theorem dX8_plan_55 : decode cX8_plan 55 = .ok (.aload_n 0, 1) := dk_42 (dk_at dksX8_plan_2 10 rfl rfl)
theorem dX8_plan_56 : decode cX8_plan 56 = .ok (.getfield 444, 3) := dk_180 1 188 (dk_at dksX8_plan_2 11 rfl rfl)
theorem dX8_plan_59 : decode cX8_plan 59 = .ok (.ifCond .le 11, 3) := dk_158 0 11 (dk_at dksX8_plan_2 14 rfl rfl)
theorem dX8_plan_62 : decode cX8_plan 62 = .ok (.aload_n 0, 1) := dk_42 (dk_at dksX8_plan_2 17 rfl rfl)
theorem dX8_plan_63 : decode cX8_plan 63 = .ok (.invokevirtual 475, 3) := dk_182 1 219 (dk_at dksX8_plan_2 18 rfl rfl)
theorem dX8_plan_66 : decode cX8_plan 66 = .ok (.istore_n 2, 1) := dk_61 (dk_at dksX8_plan_2 21 rfl rfl)
theorem dX8_plan_67 : decode cX8_plan 67 = .ok (.goto (-27), 3) := dk_167 255 229 (dk_at dksX8_plan_3 0 rfl rfl)
theorem dX8_plan_70 : decode cX8_plan 70 = .ok (.aload_n 0, 1) := dk_42 (dk_at dksX8_plan_3 3 rfl rfl)
theorem dX8_plan_71 : decode cX8_plan 71 = .ok (.iconst 0, 1) := dk_3 (dk_at dksX8_plan_3 4 rfl rfl)
theorem dX8_plan_72 : decode cX8_plan 72 = .ok (.putfield 147, 3) := dk_181 0 147 (dk_at dksX8_plan_3 5 rfl rfl)
theorem dX8_plan_75 : decode cX8_plan 75 = .ok (.iload_n 2, 1) := dk_28 (dk_at dksX8_plan_3 8 rfl rfl)
theorem dX8_plan_76 : decode cX8_plan 76 = .ok (.ifCond .ne 8, 3) := dk_154 0 8 (dk_at dksX8_plan_3 9 rfl rfl)
theorem dX8_plan_79 : decode cX8_plan 79 = .ok (.aload_n 0, 1) := dk_42 (dk_at dksX8_plan_3 12 rfl rfl)
theorem dX8_plan_80 : decode cX8_plan 80 = .ok (.getfield 164, 3) := dk_180 0 164 (dk_at dksX8_plan_3 13 rfl rfl)
theorem dX8_plan_83 : decode cX8_plan 83 = .ok (.ireturn, 1) := dk_172 (dk_at dksX8_plan_3 16 rfl rfl)
theorem dX8_plan_84 : decode cX8_plan 84 = .ok (.iconst 0, 1) := dk_3 (dk_at dksX8_plan_3 17 rfl rfl)
theorem dX8_plan_85 : decode cX8_plan 85 = .ok (.istore_n 3, 1) := dk_62 (dk_at dksX8_plan_3 18 rfl rfl)
theorem dX8_plan_86 : decode cX8_plan 86 = .ok (.iconst 0, 1) := dk_3 (dk_at dksX8_plan_3 19 rfl rfl)
theorem dX8_plan_87 : decode cX8_plan 87 = .ok (.istore 4, 2) := dk_54 4 (dk_at dksX8_plan_3 20 rfl rfl)
theorem dX8_plan_89 : decode cX8_plan 89 = .ok (.iload 4, 2) := dk_21 4 (dk_at dksX8_plan_3 22 rfl rfl)
theorem dX8_plan_91 : decode cX8_plan 91 = .ok (.aload_n 0, 1) := dk_42 (dk_at dksX8_plan_4 0 rfl rfl)
theorem dX8_plan_92 : decode cX8_plan 92 = .ok (.getfield 426, 3) := dk_180 1 170 (dk_at dksX8_plan_4 1 rfl rfl)
theorem dX8_plan_95 : decode cX8_plan 95 = .ok (.if_icmp .ge 22, 3) := dk_162 0 22 (dk_at dksX8_plan_4 4 rfl rfl)
theorem dX8_plan_98 : decode cX8_plan 98 = .ok (.aload_n 0, 1) := dk_42 (dk_at dksX8_plan_4 7 rfl rfl)
theorem dX8_plan_99 : decode cX8_plan 99 = .ok (.iload 4, 2) := dk_21 4 (dk_at dksX8_plan_4 8 rfl rfl)
theorem dX8_plan_101 : decode cX8_plan 101 = .ok (.invokevirtual 478, 3) := dk_182 1 222 (dk_at dksX8_plan_4 10 rfl rfl)
theorem dX8_plan_104 : decode cX8_plan 104 = .ok (.ifCond .eq 7, 3) := dk_153 0 7 (dk_at dksX8_plan_4 13 rfl rfl)
theorem dX8_plan_107 : decode cX8_plan 107 = .ok (.iload_n 3, 1) := dk_29 (dk_at dksX8_plan_4 16 rfl rfl)
theorem dX8_plan_108 : decode cX8_plan 108 = .ok (.iconst 1, 1) := dk_4 (dk_at dksX8_plan_4 17 rfl rfl)
theorem dX8_plan_109 : decode cX8_plan 109 = .ok (.iadd, 1) := dk_96 (dk_at dksX8_plan_4 18 rfl rfl)
theorem dX8_plan_110 : decode cX8_plan 110 = .ok (.istore_n 3, 1) := dk_62 (dk_at dksX8_plan_4 19 rfl rfl)
theorem dX8_plan_111 : decode cX8_plan 111 = .ok (.iinc 4 1, 3) := dk_132 4 1 (dk_at dksX8_plan_4 20 rfl rfl)
theorem dX8_plan_114 : decode cX8_plan 114 = .ok (.goto (-25), 3) := dk_167 255 231 (dk_at dksX8_plan_5 0 rfl rfl)
theorem dX8_plan_117 : decode cX8_plan 117 = .ok (.iload_n 3, 1) := dk_29 (dk_at dksX8_plan_5 3 rfl rfl)
theorem dX8_plan_118 : decode cX8_plan 118 = .ok (.ireturn, 1) := dk_172 (dk_at dksX8_plan_5 4 rfl rfl)
abbrev cX8_readsAct : ByteArray := prog_18_method_113_code
def yX8_readsAct : MethodName := ⟨RX8, "readsAct", "()Z"⟩
def dkwX8_readsAct_13 : List UInt8 := [180, 1, 188, 46, 182, 1, 197, 154, 255, 189, 3, 172, 4, 172]
abbrev dktX8_readsAct_13 : List UInt8 := dkwX8_readsAct_13 ++ []
def dkwX8_readsAct_12 : List UInt8 := [42, 180, 0, 83, 42, 180, 1, 188, 46, 42, 180, 0, 86, 42, 180, 1, 188, 46, 42, 180, 0, 80, 42]
abbrev dktX8_readsAct_12 : List UInt8 := dkwX8_readsAct_12 ++ dktX8_readsAct_13
def dkwX8_readsAct_11 : List UInt8 := [158, 0, 59, 42, 42, 180, 0, 154, 4, 96, 181, 0, 154, 42, 42, 180, 1, 188, 4, 100, 181, 1, 188, 42]
abbrev dktX8_readsAct_11 : List UInt8 := dkwX8_readsAct_11 ++ dktX8_readsAct_12
def dkwX8_readsAct_10 : List UInt8 := [100, 28, 27, 182, 1, 197, 154, 0, 5, 3, 172, 42, 182, 0, 160, 16, 41, 160, 0, 66, 42, 180, 1, 188]
abbrev dktX8_readsAct_10 : List UInt8 := dkwX8_readsAct_10 ++ dktX8_readsAct_11
def dkwX8_readsAct_9 : List UInt8 := [180, 1, 170, 42, 180, 1, 179, 79, 42, 42, 180, 1, 170, 4, 96, 181, 1, 170, 42, 42, 180, 1, 170, 4]
abbrev dktX8_readsAct_9 : List UInt8 := dkwX8_readsAct_9 ++ dktX8_readsAct_10
def dkwX8_readsAct_8 : List UInt8 := [180, 1, 173, 79, 42, 180, 0, 74, 42, 180, 1, 170, 42, 180, 1, 176, 79, 42, 180, 0, 77, 42]
abbrev dktX8_readsAct_8 : List UInt8 := dkwX8_readsAct_8 ++ dktX8_readsAct_9
def dkwX8_readsAct_7 : List UInt8 := [27, 182, 0, 167, 172, 42, 180, 0, 68, 42, 180, 1, 170, 29, 79, 42, 180, 0, 71, 42, 180, 1, 170, 42]
abbrev dktX8_readsAct_7 : List UInt8 := dkwX8_readsAct_7 ++ dktX8_readsAct_8
def dkwX8_readsAct_6 : List UInt8 := [29, 182, 1, 194, 154, 0, 5, 3, 172, 42, 180, 1, 170, 28, 96, 17, 0, 200, 164, 0, 11, 42, 16, 6]
abbrev dktX8_readsAct_6 : List UInt8 := dkwX8_readsAct_6 ++ dktX8_readsAct_7
def dkwX8_readsAct_5 : List UInt8 := [154, 0, 13, 42, 4, 42, 180, 0, 154, 182, 0, 167, 172, 42, 42, 180, 0, 154, 4, 96, 181, 0, 154, 42]
abbrev dktX8_readsAct_5 : List UInt8 := dkwX8_readsAct_5 ++ dktX8_readsAct_6
def dkwX8_readsAct_4 : List UInt8 := [167, 255, 166, 42, 180, 1, 164, 60, 42, 180, 1, 167, 61, 42, 182, 0, 160, 62, 29, 184, 1, 191]
abbrev dktX8_readsAct_4 : List UInt8 := dkwX8_readsAct_4 ++ dktX8_readsAct_5
def dkwX8_readsAct_3 : List UInt8 := [180, 1, 188, 4, 96, 181, 1, 188, 42, 42, 180, 0, 154, 4, 96, 181, 0, 154, 42, 182, 1, 185]
abbrev dktX8_readsAct_3 : List UInt8 := dkwX8_readsAct_3 ++ dktX8_readsAct_4
def dkwX8_readsAct_2 : List UInt8 := [42, 180, 1, 188, 42, 180, 1, 170, 79, 42, 180, 0, 86, 42, 180, 1, 188, 42, 180, 1, 167, 79, 42, 42]
abbrev dktX8_readsAct_2 : List UInt8 := dkwX8_readsAct_2 ++ dktX8_readsAct_3
def dkwX8_readsAct_1 : List UInt8 := [180, 0, 154, 182, 0, 167, 172, 42, 180, 0, 80, 42, 180, 1, 188, 42, 180, 1, 164, 79, 42, 180, 0, 83]
abbrev dktX8_readsAct_1 : List UInt8 := dkwX8_readsAct_1 ++ dktX8_readsAct_2
def dkwX8_readsAct_0 : List UInt8 := [42, 182, 1, 185, 42, 182, 0, 160, 16, 40, 160, 0, 87, 42, 180, 1, 188, 5, 160, 0, 13, 42, 8, 42]
abbrev dktX8_readsAct_0 : List UInt8 := dkwX8_readsAct_0 ++ dktX8_readsAct_1
theorem dksX8_readsAct_0 : cX8_readsAct.data.toList.drop 0 = dktX8_readsAct_0 := by decide +kernel
theorem dksX8_readsAct_1 : cX8_readsAct.data.toList.drop 24 = dktX8_readsAct_1 := dk_seg dksX8_readsAct_0 24 rfl rfl
theorem dksX8_readsAct_2 : cX8_readsAct.data.toList.drop 48 = dktX8_readsAct_2 := dk_seg dksX8_readsAct_1 24 rfl rfl
theorem dksX8_readsAct_3 : cX8_readsAct.data.toList.drop 72 = dktX8_readsAct_3 := dk_seg dksX8_readsAct_2 24 rfl rfl
theorem dksX8_readsAct_4 : cX8_readsAct.data.toList.drop 94 = dktX8_readsAct_4 := dk_seg dksX8_readsAct_3 22 rfl rfl
theorem dksX8_readsAct_5 : cX8_readsAct.data.toList.drop 116 = dktX8_readsAct_5 := dk_seg dksX8_readsAct_4 22 rfl rfl
theorem dksX8_readsAct_6 : cX8_readsAct.data.toList.drop 140 = dktX8_readsAct_6 := dk_seg dksX8_readsAct_5 24 rfl rfl
theorem dksX8_readsAct_7 : cX8_readsAct.data.toList.drop 164 = dktX8_readsAct_7 := dk_seg dksX8_readsAct_6 24 rfl rfl
theorem dksX8_readsAct_8 : cX8_readsAct.data.toList.drop 188 = dktX8_readsAct_8 := dk_seg dksX8_readsAct_7 24 rfl rfl
theorem dksX8_readsAct_9 : cX8_readsAct.data.toList.drop 210 = dktX8_readsAct_9 := dk_seg dksX8_readsAct_8 22 rfl rfl
theorem dksX8_readsAct_10 : cX8_readsAct.data.toList.drop 234 = dktX8_readsAct_10 := dk_seg dksX8_readsAct_9 24 rfl rfl
theorem dksX8_readsAct_11 : cX8_readsAct.data.toList.drop 258 = dktX8_readsAct_11 := dk_seg dksX8_readsAct_10 24 rfl rfl
theorem dksX8_readsAct_12 : cX8_readsAct.data.toList.drop 282 = dktX8_readsAct_12 := dk_seg dksX8_readsAct_11 24 rfl rfl
theorem dksX8_readsAct_13 : cX8_readsAct.data.toList.drop 305 = dktX8_readsAct_13 := dk_seg dksX8_readsAct_12 23 rfl rfl
theorem dX8_readsAct_0 : decode cX8_readsAct 0 = .ok (.aload_n 0, 1) := dk_42 (dk_at dksX8_readsAct_0 0 rfl rfl)
theorem dX8_readsAct_1 : decode cX8_readsAct 1 = .ok (.invokevirtual 441, 3) := dk_182 1 185 (dk_at dksX8_readsAct_0 1 rfl rfl)
theorem dX8_readsAct_4 : decode cX8_readsAct 4 = .ok (.aload_n 0, 1) := dk_42 (dk_at dksX8_readsAct_0 4 rfl rfl)
theorem dX8_readsAct_5 : decode cX8_readsAct 5 = .ok (.invokevirtual 160, 3) := dk_182 0 160 (dk_at dksX8_readsAct_0 5 rfl rfl)
theorem dX8_readsAct_8 : decode cX8_readsAct 8 = .ok (.bipush 40, 2) := dk_16 40 (dk_at dksX8_readsAct_0 8 rfl rfl)
theorem dX8_readsAct_10 : decode cX8_readsAct 10 = .ok (.if_icmp .ne 87, 3) := dk_160 0 87 (dk_at dksX8_readsAct_0 10 rfl rfl)
theorem dX8_readsAct_13 : decode cX8_readsAct 13 = .ok (.aload_n 0, 1) := dk_42 (dk_at dksX8_readsAct_0 13 rfl rfl)
theorem dX8_readsAct_14 : decode cX8_readsAct 14 = .ok (.getfield 444, 3) := dk_180 1 188 (dk_at dksX8_readsAct_0 14 rfl rfl)
theorem dX8_readsAct_17 : decode cX8_readsAct 17 = .ok (.iconst 2, 1) := dk_5 (dk_at dksX8_readsAct_0 17 rfl rfl)
theorem dX8_readsAct_18 : decode cX8_readsAct 18 = .ok (.if_icmp .ne 13, 3) := dk_160 0 13 (dk_at dksX8_readsAct_0 18 rfl rfl)
theorem dX8_readsAct_21 : decode cX8_readsAct 21 = .ok (.aload_n 0, 1) := dk_42 (dk_at dksX8_readsAct_0 21 rfl rfl)
theorem dX8_readsAct_22 : decode cX8_readsAct 22 = .ok (.iconst 5, 1) := dk_8 (dk_at dksX8_readsAct_0 22 rfl rfl)
theorem dX8_readsAct_23 : decode cX8_readsAct 23 = .ok (.aload_n 0, 1) := dk_42 (dk_at dksX8_readsAct_0 23 rfl rfl)
theorem dX8_readsAct_24 : decode cX8_readsAct 24 = .ok (.getfield 154, 3) := dk_180 0 154 (dk_at dksX8_readsAct_1 0 rfl rfl)
theorem dX8_readsAct_27 : decode cX8_readsAct 27 = .ok (.invokevirtual 167, 3) := dk_182 0 167 (dk_at dksX8_readsAct_1 3 rfl rfl)
theorem dX8_readsAct_30 : decode cX8_readsAct 30 = .ok (.ireturn, 1) := dk_172 (dk_at dksX8_readsAct_1 6 rfl rfl)
theorem dX8_readsAct_31 : decode cX8_readsAct 31 = .ok (.aload_n 0, 1) := dk_42 (dk_at dksX8_readsAct_1 7 rfl rfl)
theorem dX8_readsAct_32 : decode cX8_readsAct 32 = .ok (.getfield 80, 3) := dk_180 0 80 (dk_at dksX8_readsAct_1 8 rfl rfl)
theorem dX8_readsAct_35 : decode cX8_readsAct 35 = .ok (.aload_n 0, 1) := dk_42 (dk_at dksX8_readsAct_1 11 rfl rfl)
theorem dX8_readsAct_36 : decode cX8_readsAct 36 = .ok (.getfield 444, 3) := dk_180 1 188 (dk_at dksX8_readsAct_1 12 rfl rfl)
theorem dX8_readsAct_39 : decode cX8_readsAct 39 = .ok (.aload_n 0, 1) := dk_42 (dk_at dksX8_readsAct_1 15 rfl rfl)
theorem dX8_readsAct_40 : decode cX8_readsAct 40 = .ok (.getfield 420, 3) := dk_180 1 164 (dk_at dksX8_readsAct_1 16 rfl rfl)
theorem dX8_readsAct_43 : decode cX8_readsAct 43 = .ok (.iastore, 1) := dk_79 (dk_at dksX8_readsAct_1 19 rfl rfl)
theorem dX8_readsAct_44 : decode cX8_readsAct 44 = .ok (.aload_n 0, 1) := dk_42 (dk_at dksX8_readsAct_1 20 rfl rfl)
theorem dX8_readsAct_45 : decode cX8_readsAct 45 = .ok (.getfield 83, 3) := dk_180 0 83 (dk_at dksX8_readsAct_1 21 rfl rfl)
theorem dX8_readsAct_48 : decode cX8_readsAct 48 = .ok (.aload_n 0, 1) := dk_42 (dk_at dksX8_readsAct_2 0 rfl rfl)
theorem dX8_readsAct_49 : decode cX8_readsAct 49 = .ok (.getfield 444, 3) := dk_180 1 188 (dk_at dksX8_readsAct_2 1 rfl rfl)
theorem dX8_readsAct_52 : decode cX8_readsAct 52 = .ok (.aload_n 0, 1) := dk_42 (dk_at dksX8_readsAct_2 4 rfl rfl)
theorem dX8_readsAct_53 : decode cX8_readsAct 53 = .ok (.getfield 426, 3) := dk_180 1 170 (dk_at dksX8_readsAct_2 5 rfl rfl)
theorem dX8_readsAct_56 : decode cX8_readsAct 56 = .ok (.iastore, 1) := dk_79 (dk_at dksX8_readsAct_2 8 rfl rfl)
theorem dX8_readsAct_57 : decode cX8_readsAct 57 = .ok (.aload_n 0, 1) := dk_42 (dk_at dksX8_readsAct_2 9 rfl rfl)
theorem dX8_readsAct_58 : decode cX8_readsAct 58 = .ok (.getfield 86, 3) := dk_180 0 86 (dk_at dksX8_readsAct_2 10 rfl rfl)
theorem dX8_readsAct_61 : decode cX8_readsAct 61 = .ok (.aload_n 0, 1) := dk_42 (dk_at dksX8_readsAct_2 13 rfl rfl)
theorem dX8_readsAct_62 : decode cX8_readsAct 62 = .ok (.getfield 444, 3) := dk_180 1 188 (dk_at dksX8_readsAct_2 14 rfl rfl)
theorem dX8_readsAct_65 : decode cX8_readsAct 65 = .ok (.aload_n 0, 1) := dk_42 (dk_at dksX8_readsAct_2 17 rfl rfl)
theorem dX8_readsAct_66 : decode cX8_readsAct 66 = .ok (.getfield 423, 3) := dk_180 1 167 (dk_at dksX8_readsAct_2 18 rfl rfl)
theorem dX8_readsAct_69 : decode cX8_readsAct 69 = .ok (.iastore, 1) := dk_79 (dk_at dksX8_readsAct_2 21 rfl rfl)
theorem dX8_readsAct_70 : decode cX8_readsAct 70 = .ok (.aload_n 0, 1) := dk_42 (dk_at dksX8_readsAct_2 22 rfl rfl)
theorem dX8_readsAct_71 : decode cX8_readsAct 71 = .ok (.aload_n 0, 1) := dk_42 (dk_at dksX8_readsAct_2 23 rfl rfl)
theorem dX8_readsAct_72 : decode cX8_readsAct 72 = .ok (.getfield 444, 3) := dk_180 1 188 (dk_at dksX8_readsAct_3 0 rfl rfl)
theorem dX8_readsAct_75 : decode cX8_readsAct 75 = .ok (.iconst 1, 1) := dk_4 (dk_at dksX8_readsAct_3 3 rfl rfl)
theorem dX8_readsAct_76 : decode cX8_readsAct 76 = .ok (.iadd, 1) := dk_96 (dk_at dksX8_readsAct_3 4 rfl rfl)
theorem dX8_readsAct_77 : decode cX8_readsAct 77 = .ok (.putfield 444, 3) := dk_181 1 188 (dk_at dksX8_readsAct_3 5 rfl rfl)
theorem dX8_readsAct_80 : decode cX8_readsAct 80 = .ok (.aload_n 0, 1) := dk_42 (dk_at dksX8_readsAct_3 8 rfl rfl)
theorem dX8_readsAct_81 : decode cX8_readsAct 81 = .ok (.aload_n 0, 1) := dk_42 (dk_at dksX8_readsAct_3 9 rfl rfl)
theorem dX8_readsAct_82 : decode cX8_readsAct 82 = .ok (.getfield 154, 3) := dk_180 0 154 (dk_at dksX8_readsAct_3 10 rfl rfl)
theorem dX8_readsAct_85 : decode cX8_readsAct 85 = .ok (.iconst 1, 1) := dk_4 (dk_at dksX8_readsAct_3 13 rfl rfl)
theorem dX8_readsAct_86 : decode cX8_readsAct 86 = .ok (.iadd, 1) := dk_96 (dk_at dksX8_readsAct_3 14 rfl rfl)
theorem dX8_readsAct_87 : decode cX8_readsAct 87 = .ok (.putfield 154, 3) := dk_181 0 154 (dk_at dksX8_readsAct_3 15 rfl rfl)
theorem dX8_readsAct_90 : decode cX8_readsAct 90 = .ok (.aload_n 0, 1) := dk_42 (dk_at dksX8_readsAct_3 18 rfl rfl)
theorem dX8_readsAct_91 : decode cX8_readsAct 91 = .ok (.invokevirtual 441, 3) := dk_182 1 185 (dk_at dksX8_readsAct_3 19 rfl rfl)
theorem dX8_readsAct_94 : decode cX8_readsAct 94 = .ok (.goto (-90), 3) := dk_167 255 166 (dk_at dksX8_readsAct_4 0 rfl rfl)
theorem dX8_readsAct_97 : decode cX8_readsAct 97 = .ok (.aload_n 0, 1) := dk_42 (dk_at dksX8_readsAct_4 3 rfl rfl)
theorem dX8_readsAct_98 : decode cX8_readsAct 98 = .ok (.getfield 420, 3) := dk_180 1 164 (dk_at dksX8_readsAct_4 4 rfl rfl)
theorem dX8_readsAct_101 : decode cX8_readsAct 101 = .ok (.istore_n 1, 1) := dk_60 (dk_at dksX8_readsAct_4 7 rfl rfl)
theorem dX8_readsAct_102 : decode cX8_readsAct 102 = .ok (.aload_n 0, 1) := dk_42 (dk_at dksX8_readsAct_4 8 rfl rfl)
theorem dX8_readsAct_103 : decode cX8_readsAct 103 = .ok (.getfield 423, 3) := dk_180 1 167 (dk_at dksX8_readsAct_4 9 rfl rfl)
theorem dX8_readsAct_106 : decode cX8_readsAct 106 = .ok (.istore_n 2, 1) := dk_61 (dk_at dksX8_readsAct_4 12 rfl rfl)
theorem dX8_readsAct_107 : decode cX8_readsAct 107 = .ok (.aload_n 0, 1) := dk_42 (dk_at dksX8_readsAct_4 13 rfl rfl)
theorem dX8_readsAct_108 : decode cX8_readsAct 108 = .ok (.invokevirtual 160, 3) := dk_182 0 160 (dk_at dksX8_readsAct_4 14 rfl rfl)
theorem dX8_readsAct_111 : decode cX8_readsAct 111 = .ok (.istore_n 3, 1) := dk_62 (dk_at dksX8_readsAct_4 17 rfl rfl)
theorem dX8_readsAct_112 : decode cX8_readsAct 112 = .ok (.iload_n 3, 1) := dk_29 (dk_at dksX8_readsAct_4 18 rfl rfl)
theorem dX8_readsAct_113 : decode cX8_readsAct 113 = .ok (.invokestatic 447, 3) := dk_184 1 191 (dk_at dksX8_readsAct_4 19 rfl rfl)
theorem dX8_readsAct_116 : decode cX8_readsAct 116 = .ok (.ifCond .ne 13, 3) := dk_154 0 13 (dk_at dksX8_readsAct_5 0 rfl rfl)
theorem dX8_readsAct_119 : decode cX8_readsAct 119 = .ok (.aload_n 0, 1) := dk_42 (dk_at dksX8_readsAct_5 3 rfl rfl)
theorem dX8_readsAct_120 : decode cX8_readsAct 120 = .ok (.iconst 1, 1) := dk_4 (dk_at dksX8_readsAct_5 4 rfl rfl)
theorem dX8_readsAct_121 : decode cX8_readsAct 121 = .ok (.aload_n 0, 1) := dk_42 (dk_at dksX8_readsAct_5 5 rfl rfl)
theorem dX8_readsAct_122 : decode cX8_readsAct 122 = .ok (.getfield 154, 3) := dk_180 0 154 (dk_at dksX8_readsAct_5 6 rfl rfl)
theorem dX8_readsAct_125 : decode cX8_readsAct 125 = .ok (.invokevirtual 167, 3) := dk_182 0 167 (dk_at dksX8_readsAct_5 9 rfl rfl)
theorem dX8_readsAct_128 : decode cX8_readsAct 128 = .ok (.ireturn, 1) := dk_172 (dk_at dksX8_readsAct_5 12 rfl rfl)
theorem dX8_readsAct_129 : decode cX8_readsAct 129 = .ok (.aload_n 0, 1) := dk_42 (dk_at dksX8_readsAct_5 13 rfl rfl)
theorem dX8_readsAct_130 : decode cX8_readsAct 130 = .ok (.aload_n 0, 1) := dk_42 (dk_at dksX8_readsAct_5 14 rfl rfl)
theorem dX8_readsAct_131 : decode cX8_readsAct 131 = .ok (.getfield 154, 3) := dk_180 0 154 (dk_at dksX8_readsAct_5 15 rfl rfl)
theorem dX8_readsAct_134 : decode cX8_readsAct 134 = .ok (.iconst 1, 1) := dk_4 (dk_at dksX8_readsAct_5 18 rfl rfl)
theorem dX8_readsAct_135 : decode cX8_readsAct 135 = .ok (.iadd, 1) := dk_96 (dk_at dksX8_readsAct_5 19 rfl rfl)
theorem dX8_readsAct_136 : decode cX8_readsAct 136 = .ok (.putfield 154, 3) := dk_181 0 154 (dk_at dksX8_readsAct_5 20 rfl rfl)
theorem dX8_readsAct_139 : decode cX8_readsAct 139 = .ok (.aload_n 0, 1) := dk_42 (dk_at dksX8_readsAct_5 23 rfl rfl)
theorem dX8_readsAct_140 : decode cX8_readsAct 140 = .ok (.iload_n 3, 1) := dk_29 (dk_at dksX8_readsAct_6 0 rfl rfl)
theorem dX8_readsAct_141 : decode cX8_readsAct 141 = .ok (.invokevirtual 450, 3) := dk_182 1 194 (dk_at dksX8_readsAct_6 1 rfl rfl)
theorem dX8_readsAct_144 : decode cX8_readsAct 144 = .ok (.ifCond .ne 5, 3) := dk_154 0 5 (dk_at dksX8_readsAct_6 4 rfl rfl)
theorem dX8_readsAct_147 : decode cX8_readsAct 147 = .ok (.iconst 0, 1) := dk_3 (dk_at dksX8_readsAct_6 7 rfl rfl)
theorem dX8_readsAct_148 : decode cX8_readsAct 148 = .ok (.ireturn, 1) := dk_172 (dk_at dksX8_readsAct_6 8 rfl rfl)
theorem dX8_readsAct_149 : decode cX8_readsAct 149 = .ok (.aload_n 0, 1) := dk_42 (dk_at dksX8_readsAct_6 9 rfl rfl)
theorem dX8_readsAct_150 : decode cX8_readsAct 150 = .ok (.getfield 426, 3) := dk_180 1 170 (dk_at dksX8_readsAct_6 10 rfl rfl)
theorem dX8_readsAct_153 : decode cX8_readsAct 153 = .ok (.iload_n 2, 1) := dk_28 (dk_at dksX8_readsAct_6 13 rfl rfl)
theorem dX8_readsAct_154 : decode cX8_readsAct 154 = .ok (.iadd, 1) := dk_96 (dk_at dksX8_readsAct_6 14 rfl rfl)
theorem dX8_readsAct_155 : decode cX8_readsAct 155 = .ok (.sipush 200, 3) := dk_17 0 200 (dk_at dksX8_readsAct_6 15 rfl rfl)
theorem dX8_readsAct_158 : decode cX8_readsAct 158 = .ok (.if_icmp .le 11, 3) := dk_164 0 11 (dk_at dksX8_readsAct_6 18 rfl rfl)
theorem dX8_readsAct_161 : decode cX8_readsAct 161 = .ok (.aload_n 0, 1) := dk_42 (dk_at dksX8_readsAct_6 21 rfl rfl)
theorem dX8_readsAct_162 : decode cX8_readsAct 162 = .ok (.bipush 6, 2) := dk_16 6 (dk_at dksX8_readsAct_6 22 rfl rfl)
theorem dX8_readsAct_164 : decode cX8_readsAct 164 = .ok (.iload_n 1, 1) := dk_27 (dk_at dksX8_readsAct_7 0 rfl rfl)
theorem dX8_readsAct_165 : decode cX8_readsAct 165 = .ok (.invokevirtual 167, 3) := dk_182 0 167 (dk_at dksX8_readsAct_7 1 rfl rfl)
theorem dX8_readsAct_168 : decode cX8_readsAct 168 = .ok (.ireturn, 1) := dk_172 (dk_at dksX8_readsAct_7 4 rfl rfl)
theorem dX8_readsAct_169 : decode cX8_readsAct 169 = .ok (.aload_n 0, 1) := dk_42 (dk_at dksX8_readsAct_7 5 rfl rfl)
theorem dX8_readsAct_170 : decode cX8_readsAct 170 = .ok (.getfield 68, 3) := dk_180 0 68 (dk_at dksX8_readsAct_7 6 rfl rfl)
theorem dX8_readsAct_173 : decode cX8_readsAct 173 = .ok (.aload_n 0, 1) := dk_42 (dk_at dksX8_readsAct_7 9 rfl rfl)
theorem dX8_readsAct_174 : decode cX8_readsAct 174 = .ok (.getfield 426, 3) := dk_180 1 170 (dk_at dksX8_readsAct_7 10 rfl rfl)
theorem dX8_readsAct_177 : decode cX8_readsAct 177 = .ok (.iload_n 3, 1) := dk_29 (dk_at dksX8_readsAct_7 13 rfl rfl)
theorem dX8_readsAct_178 : decode cX8_readsAct 178 = .ok (.iastore, 1) := dk_79 (dk_at dksX8_readsAct_7 14 rfl rfl)
theorem dX8_readsAct_179 : decode cX8_readsAct 179 = .ok (.aload_n 0, 1) := dk_42 (dk_at dksX8_readsAct_7 15 rfl rfl)
theorem dX8_readsAct_180 : decode cX8_readsAct 180 = .ok (.getfield 71, 3) := dk_180 0 71 (dk_at dksX8_readsAct_7 16 rfl rfl)
theorem dX8_readsAct_183 : decode cX8_readsAct 183 = .ok (.aload_n 0, 1) := dk_42 (dk_at dksX8_readsAct_7 19 rfl rfl)
theorem dX8_readsAct_184 : decode cX8_readsAct 184 = .ok (.getfield 426, 3) := dk_180 1 170 (dk_at dksX8_readsAct_7 20 rfl rfl)
theorem dX8_readsAct_187 : decode cX8_readsAct 187 = .ok (.aload_n 0, 1) := dk_42 (dk_at dksX8_readsAct_7 23 rfl rfl)
theorem dX8_readsAct_188 : decode cX8_readsAct 188 = .ok (.getfield 429, 3) := dk_180 1 173 (dk_at dksX8_readsAct_8 0 rfl rfl)
theorem dX8_readsAct_191 : decode cX8_readsAct 191 = .ok (.iastore, 1) := dk_79 (dk_at dksX8_readsAct_8 3 rfl rfl)
theorem dX8_readsAct_192 : decode cX8_readsAct 192 = .ok (.aload_n 0, 1) := dk_42 (dk_at dksX8_readsAct_8 4 rfl rfl)
theorem dX8_readsAct_193 : decode cX8_readsAct 193 = .ok (.getfield 74, 3) := dk_180 0 74 (dk_at dksX8_readsAct_8 5 rfl rfl)
theorem dX8_readsAct_196 : decode cX8_readsAct 196 = .ok (.aload_n 0, 1) := dk_42 (dk_at dksX8_readsAct_8 8 rfl rfl)
theorem dX8_readsAct_197 : decode cX8_readsAct 197 = .ok (.getfield 426, 3) := dk_180 1 170 (dk_at dksX8_readsAct_8 9 rfl rfl)
theorem dX8_readsAct_200 : decode cX8_readsAct 200 = .ok (.aload_n 0, 1) := dk_42 (dk_at dksX8_readsAct_8 12 rfl rfl)
theorem dX8_readsAct_201 : decode cX8_readsAct 201 = .ok (.getfield 432, 3) := dk_180 1 176 (dk_at dksX8_readsAct_8 13 rfl rfl)
theorem dX8_readsAct_204 : decode cX8_readsAct 204 = .ok (.iastore, 1) := dk_79 (dk_at dksX8_readsAct_8 16 rfl rfl)
theorem dX8_readsAct_205 : decode cX8_readsAct 205 = .ok (.aload_n 0, 1) := dk_42 (dk_at dksX8_readsAct_8 17 rfl rfl)
theorem dX8_readsAct_206 : decode cX8_readsAct 206 = .ok (.getfield 77, 3) := dk_180 0 77 (dk_at dksX8_readsAct_8 18 rfl rfl)
theorem dX8_readsAct_209 : decode cX8_readsAct 209 = .ok (.aload_n 0, 1) := dk_42 (dk_at dksX8_readsAct_8 21 rfl rfl)
theorem dX8_readsAct_210 : decode cX8_readsAct 210 = .ok (.getfield 426, 3) := dk_180 1 170 (dk_at dksX8_readsAct_9 0 rfl rfl)
theorem dX8_readsAct_213 : decode cX8_readsAct 213 = .ok (.aload_n 0, 1) := dk_42 (dk_at dksX8_readsAct_9 3 rfl rfl)
theorem dX8_readsAct_214 : decode cX8_readsAct 214 = .ok (.getfield 435, 3) := dk_180 1 179 (dk_at dksX8_readsAct_9 4 rfl rfl)
theorem dX8_readsAct_217 : decode cX8_readsAct 217 = .ok (.iastore, 1) := dk_79 (dk_at dksX8_readsAct_9 7 rfl rfl)
theorem dX8_readsAct_218 : decode cX8_readsAct 218 = .ok (.aload_n 0, 1) := dk_42 (dk_at dksX8_readsAct_9 8 rfl rfl)
theorem dX8_readsAct_219 : decode cX8_readsAct 219 = .ok (.aload_n 0, 1) := dk_42 (dk_at dksX8_readsAct_9 9 rfl rfl)
theorem dX8_readsAct_220 : decode cX8_readsAct 220 = .ok (.getfield 426, 3) := dk_180 1 170 (dk_at dksX8_readsAct_9 10 rfl rfl)
theorem dX8_readsAct_223 : decode cX8_readsAct 223 = .ok (.iconst 1, 1) := dk_4 (dk_at dksX8_readsAct_9 13 rfl rfl)
theorem dX8_readsAct_224 : decode cX8_readsAct 224 = .ok (.iadd, 1) := dk_96 (dk_at dksX8_readsAct_9 14 rfl rfl)
theorem dX8_readsAct_225 : decode cX8_readsAct 225 = .ok (.putfield 426, 3) := dk_181 1 170 (dk_at dksX8_readsAct_9 15 rfl rfl)
theorem dX8_readsAct_228 : decode cX8_readsAct 228 = .ok (.aload_n 0, 1) := dk_42 (dk_at dksX8_readsAct_9 18 rfl rfl)
theorem dX8_readsAct_229 : decode cX8_readsAct 229 = .ok (.aload_n 0, 1) := dk_42 (dk_at dksX8_readsAct_9 19 rfl rfl)
theorem dX8_readsAct_230 : decode cX8_readsAct 230 = .ok (.getfield 426, 3) := dk_180 1 170 (dk_at dksX8_readsAct_9 20 rfl rfl)
theorem dX8_readsAct_233 : decode cX8_readsAct 233 = .ok (.iconst 1, 1) := dk_4 (dk_at dksX8_readsAct_9 23 rfl rfl)
theorem dX8_readsAct_234 : decode cX8_readsAct 234 = .ok (.isub, 1) := dk_100 (dk_at dksX8_readsAct_10 0 rfl rfl)
theorem dX8_readsAct_235 : decode cX8_readsAct 235 = .ok (.iload_n 2, 1) := dk_28 (dk_at dksX8_readsAct_10 1 rfl rfl)
theorem dX8_readsAct_236 : decode cX8_readsAct 236 = .ok (.iload_n 1, 1) := dk_27 (dk_at dksX8_readsAct_10 2 rfl rfl)
theorem dX8_readsAct_237 : decode cX8_readsAct 237 = .ok (.invokevirtual 453, 3) := dk_182 1 197 (dk_at dksX8_readsAct_10 3 rfl rfl)
theorem dX8_readsAct_240 : decode cX8_readsAct 240 = .ok (.ifCond .ne 5, 3) := dk_154 0 5 (dk_at dksX8_readsAct_10 6 rfl rfl)
theorem dX8_readsAct_243 : decode cX8_readsAct 243 = .ok (.iconst 0, 1) := dk_3 (dk_at dksX8_readsAct_10 9 rfl rfl)
theorem dX8_readsAct_244 : decode cX8_readsAct 244 = .ok (.ireturn, 1) := dk_172 (dk_at dksX8_readsAct_10 10 rfl rfl)
theorem dX8_readsAct_245 : decode cX8_readsAct 245 = .ok (.aload_n 0, 1) := dk_42 (dk_at dksX8_readsAct_10 11 rfl rfl)
theorem dX8_readsAct_246 : decode cX8_readsAct 246 = .ok (.invokevirtual 160, 3) := dk_182 0 160 (dk_at dksX8_readsAct_10 12 rfl rfl)
theorem dX8_readsAct_249 : decode cX8_readsAct 249 = .ok (.bipush 41, 2) := dk_16 41 (dk_at dksX8_readsAct_10 15 rfl rfl)
theorem dX8_readsAct_251 : decode cX8_readsAct 251 = .ok (.if_icmp .ne 66, 3) := dk_160 0 66 (dk_at dksX8_readsAct_10 17 rfl rfl)
theorem dX8_readsAct_254 : decode cX8_readsAct 254 = .ok (.aload_n 0, 1) := dk_42 (dk_at dksX8_readsAct_10 20 rfl rfl)
theorem dX8_readsAct_255 : decode cX8_readsAct 255 = .ok (.getfield 444, 3) := dk_180 1 188 (dk_at dksX8_readsAct_10 21 rfl rfl)
theorem dX8_readsAct_258 : decode cX8_readsAct 258 = .ok (.ifCond .le 59, 3) := dk_158 0 59 (dk_at dksX8_readsAct_11 0 rfl rfl)
theorem dX8_readsAct_261 : decode cX8_readsAct 261 = .ok (.aload_n 0, 1) := dk_42 (dk_at dksX8_readsAct_11 3 rfl rfl)
theorem dX8_readsAct_262 : decode cX8_readsAct 262 = .ok (.aload_n 0, 1) := dk_42 (dk_at dksX8_readsAct_11 4 rfl rfl)
theorem dX8_readsAct_263 : decode cX8_readsAct 263 = .ok (.getfield 154, 3) := dk_180 0 154 (dk_at dksX8_readsAct_11 5 rfl rfl)
theorem dX8_readsAct_266 : decode cX8_readsAct 266 = .ok (.iconst 1, 1) := dk_4 (dk_at dksX8_readsAct_11 8 rfl rfl)
theorem dX8_readsAct_267 : decode cX8_readsAct 267 = .ok (.iadd, 1) := dk_96 (dk_at dksX8_readsAct_11 9 rfl rfl)
theorem dX8_readsAct_268 : decode cX8_readsAct 268 = .ok (.putfield 154, 3) := dk_181 0 154 (dk_at dksX8_readsAct_11 10 rfl rfl)
theorem dX8_readsAct_271 : decode cX8_readsAct 271 = .ok (.aload_n 0, 1) := dk_42 (dk_at dksX8_readsAct_11 13 rfl rfl)
theorem dX8_readsAct_272 : decode cX8_readsAct 272 = .ok (.aload_n 0, 1) := dk_42 (dk_at dksX8_readsAct_11 14 rfl rfl)
theorem dX8_readsAct_273 : decode cX8_readsAct 273 = .ok (.getfield 444, 3) := dk_180 1 188 (dk_at dksX8_readsAct_11 15 rfl rfl)
theorem dX8_readsAct_276 : decode cX8_readsAct 276 = .ok (.iconst 1, 1) := dk_4 (dk_at dksX8_readsAct_11 18 rfl rfl)
theorem dX8_readsAct_277 : decode cX8_readsAct 277 = .ok (.isub, 1) := dk_100 (dk_at dksX8_readsAct_11 19 rfl rfl)
theorem dX8_readsAct_278 : decode cX8_readsAct 278 = .ok (.putfield 444, 3) := dk_181 1 188 (dk_at dksX8_readsAct_11 20 rfl rfl)
theorem dX8_readsAct_281 : decode cX8_readsAct 281 = .ok (.aload_n 0, 1) := dk_42 (dk_at dksX8_readsAct_11 23 rfl rfl)
theorem dX8_readsAct_282 : decode cX8_readsAct 282 = .ok (.aload_n 0, 1) := dk_42 (dk_at dksX8_readsAct_12 0 rfl rfl)
theorem dX8_readsAct_283 : decode cX8_readsAct 283 = .ok (.getfield 83, 3) := dk_180 0 83 (dk_at dksX8_readsAct_12 1 rfl rfl)
theorem dX8_readsAct_286 : decode cX8_readsAct 286 = .ok (.aload_n 0, 1) := dk_42 (dk_at dksX8_readsAct_12 4 rfl rfl)
theorem dX8_readsAct_287 : decode cX8_readsAct 287 = .ok (.getfield 444, 3) := dk_180 1 188 (dk_at dksX8_readsAct_12 5 rfl rfl)
theorem dX8_readsAct_290 : decode cX8_readsAct 290 = .ok (.iaload, 1) := dk_46 (dk_at dksX8_readsAct_12 8 rfl rfl)
theorem dX8_readsAct_291 : decode cX8_readsAct 291 = .ok (.aload_n 0, 1) := dk_42 (dk_at dksX8_readsAct_12 9 rfl rfl)
theorem dX8_readsAct_292 : decode cX8_readsAct 292 = .ok (.getfield 86, 3) := dk_180 0 86 (dk_at dksX8_readsAct_12 10 rfl rfl)
theorem dX8_readsAct_295 : decode cX8_readsAct 295 = .ok (.aload_n 0, 1) := dk_42 (dk_at dksX8_readsAct_12 13 rfl rfl)
theorem dX8_readsAct_296 : decode cX8_readsAct 296 = .ok (.getfield 444, 3) := dk_180 1 188 (dk_at dksX8_readsAct_12 14 rfl rfl)
theorem dX8_readsAct_299 : decode cX8_readsAct 299 = .ok (.iaload, 1) := dk_46 (dk_at dksX8_readsAct_12 17 rfl rfl)
theorem dX8_readsAct_300 : decode cX8_readsAct 300 = .ok (.aload_n 0, 1) := dk_42 (dk_at dksX8_readsAct_12 18 rfl rfl)
theorem dX8_readsAct_301 : decode cX8_readsAct 301 = .ok (.getfield 80, 3) := dk_180 0 80 (dk_at dksX8_readsAct_12 19 rfl rfl)
theorem dX8_readsAct_304 : decode cX8_readsAct 304 = .ok (.aload_n 0, 1) := dk_42 (dk_at dksX8_readsAct_12 22 rfl rfl)
theorem dX8_readsAct_305 : decode cX8_readsAct 305 = .ok (.getfield 444, 3) := dk_180 1 188 (dk_at dksX8_readsAct_13 0 rfl rfl)
theorem dX8_readsAct_308 : decode cX8_readsAct 308 = .ok (.iaload, 1) := dk_46 (dk_at dksX8_readsAct_13 3 rfl rfl)
theorem dX8_readsAct_309 : decode cX8_readsAct 309 = .ok (.invokevirtual 453, 3) := dk_182 1 197 (dk_at dksX8_readsAct_13 4 rfl rfl)
theorem dX8_readsAct_312 : decode cX8_readsAct 312 = .ok (.ifCond .ne (-67), 3) := dk_154 255 189 (dk_at dksX8_readsAct_13 7 rfl rfl)
theorem dX8_readsAct_315 : decode cX8_readsAct 315 = .ok (.iconst 0, 1) := dk_3 (dk_at dksX8_readsAct_13 10 rfl rfl)
theorem dX8_readsAct_316 : decode cX8_readsAct 316 = .ok (.ireturn, 1) := dk_172 (dk_at dksX8_readsAct_13 11 rfl rfl)
theorem dX8_readsAct_317 : decode cX8_readsAct 317 = .ok (.iconst 1, 1) := dk_4 (dk_at dksX8_readsAct_13 12 rfl rfl)
theorem dX8_readsAct_318 : decode cX8_readsAct 318 = .ok (.ireturn, 1) := dk_172 (dk_at dksX8_readsAct_13 13 rfl rfl)
abbrev cX8_readsTimes : ByteArray := prog_18_method_108_code
def yX8_readsTimes : MethodName := ⟨RX8, "readsTimes", "()V"⟩
def dkwX8_readsTimes_2 : List UInt8 := [181, 0, 154, 177]
abbrev dktX8_readsTimes_2 : List UInt8 := dkwX8_readsTimes_2 ++ []
def dkwX8_readsTimes_1 : List UInt8 := [154, 0, 4, 177, 42, 42, 182, 0, 160, 16, 48, 100, 181, 1, 167, 42, 42, 180, 0, 154, 4, 96]
abbrev dktX8_readsTimes_1 : List UInt8 := dkwX8_readsTimes_1 ++ dktX8_readsTimes_2
def dkwX8_readsTimes_0 : List UInt8 := [42, 42, 180, 0, 154, 181, 1, 164, 42, 4, 181, 1, 167, 42, 182, 0, 160, 16, 50, 16, 57, 184, 0, 93]
abbrev dktX8_readsTimes_0 : List UInt8 := dkwX8_readsTimes_0 ++ dktX8_readsTimes_1
theorem dksX8_readsTimes_0 : cX8_readsTimes.data.toList.drop 0 = dktX8_readsTimes_0 := by decide +kernel
theorem dksX8_readsTimes_1 : cX8_readsTimes.data.toList.drop 24 = dktX8_readsTimes_1 := dk_seg dksX8_readsTimes_0 24 rfl rfl
theorem dksX8_readsTimes_2 : cX8_readsTimes.data.toList.drop 46 = dktX8_readsTimes_2 := dk_seg dksX8_readsTimes_1 22 rfl rfl
theorem dX8_readsTimes_0 : decode cX8_readsTimes 0 = .ok (.aload_n 0, 1) := dk_42 (dk_at dksX8_readsTimes_0 0 rfl rfl)
theorem dX8_readsTimes_1 : decode cX8_readsTimes 1 = .ok (.aload_n 0, 1) := dk_42 (dk_at dksX8_readsTimes_0 1 rfl rfl)
theorem dX8_readsTimes_2 : decode cX8_readsTimes 2 = .ok (.getfield 154, 3) := dk_180 0 154 (dk_at dksX8_readsTimes_0 2 rfl rfl)
theorem dX8_readsTimes_5 : decode cX8_readsTimes 5 = .ok (.putfield 420, 3) := dk_181 1 164 (dk_at dksX8_readsTimes_0 5 rfl rfl)
theorem dX8_readsTimes_8 : decode cX8_readsTimes 8 = .ok (.aload_n 0, 1) := dk_42 (dk_at dksX8_readsTimes_0 8 rfl rfl)
theorem dX8_readsTimes_9 : decode cX8_readsTimes 9 = .ok (.iconst 1, 1) := dk_4 (dk_at dksX8_readsTimes_0 9 rfl rfl)
theorem dX8_readsTimes_10 : decode cX8_readsTimes 10 = .ok (.putfield 423, 3) := dk_181 1 167 (dk_at dksX8_readsTimes_0 10 rfl rfl)
theorem dX8_readsTimes_13 : decode cX8_readsTimes 13 = .ok (.aload_n 0, 1) := dk_42 (dk_at dksX8_readsTimes_0 13 rfl rfl)
theorem dX8_readsTimes_14 : decode cX8_readsTimes 14 = .ok (.invokevirtual 160, 3) := dk_182 0 160 (dk_at dksX8_readsTimes_0 14 rfl rfl)
theorem dX8_readsTimes_17 : decode cX8_readsTimes 17 = .ok (.bipush 50, 2) := dk_16 50 (dk_at dksX8_readsTimes_0 17 rfl rfl)
theorem dX8_readsTimes_19 : decode cX8_readsTimes 19 = .ok (.bipush 57, 2) := dk_16 57 (dk_at dksX8_readsTimes_0 19 rfl rfl)
theorem dX8_readsTimes_21 : decode cX8_readsTimes 21 = .ok (.invokestatic 93, 3) := dk_184 0 93 (dk_at dksX8_readsTimes_0 21 rfl rfl)
theorem dX8_readsTimes_24 : decode cX8_readsTimes 24 = .ok (.ifCond .ne 4, 3) := dk_154 0 4 (dk_at dksX8_readsTimes_1 0 rfl rfl)
theorem dX8_readsTimes_27 : decode cX8_readsTimes 27 = .ok (.return_, 1) := dk_177 (dk_at dksX8_readsTimes_1 3 rfl rfl)
theorem dX8_readsTimes_28 : decode cX8_readsTimes 28 = .ok (.aload_n 0, 1) := dk_42 (dk_at dksX8_readsTimes_1 4 rfl rfl)
theorem dX8_readsTimes_29 : decode cX8_readsTimes 29 = .ok (.aload_n 0, 1) := dk_42 (dk_at dksX8_readsTimes_1 5 rfl rfl)
theorem dX8_readsTimes_30 : decode cX8_readsTimes 30 = .ok (.invokevirtual 160, 3) := dk_182 0 160 (dk_at dksX8_readsTimes_1 6 rfl rfl)
theorem dX8_readsTimes_33 : decode cX8_readsTimes 33 = .ok (.bipush 48, 2) := dk_16 48 (dk_at dksX8_readsTimes_1 9 rfl rfl)
theorem dX8_readsTimes_35 : decode cX8_readsTimes 35 = .ok (.isub, 1) := dk_100 (dk_at dksX8_readsTimes_1 11 rfl rfl)
theorem dX8_readsTimes_36 : decode cX8_readsTimes 36 = .ok (.putfield 423, 3) := dk_181 1 167 (dk_at dksX8_readsTimes_1 12 rfl rfl)
theorem dX8_readsTimes_39 : decode cX8_readsTimes 39 = .ok (.aload_n 0, 1) := dk_42 (dk_at dksX8_readsTimes_1 15 rfl rfl)
theorem dX8_readsTimes_40 : decode cX8_readsTimes 40 = .ok (.aload_n 0, 1) := dk_42 (dk_at dksX8_readsTimes_1 16 rfl rfl)
theorem dX8_readsTimes_41 : decode cX8_readsTimes 41 = .ok (.getfield 154, 3) := dk_180 0 154 (dk_at dksX8_readsTimes_1 17 rfl rfl)
theorem dX8_readsTimes_44 : decode cX8_readsTimes 44 = .ok (.iconst 1, 1) := dk_4 (dk_at dksX8_readsTimes_1 20 rfl rfl)
theorem dX8_readsTimes_45 : decode cX8_readsTimes 45 = .ok (.iadd, 1) := dk_96 (dk_at dksX8_readsTimes_1 21 rfl rfl)
theorem dX8_readsTimes_46 : decode cX8_readsTimes 46 = .ok (.putfield 154, 3) := dk_181 0 154 (dk_at dksX8_readsTimes_2 0 rfl rfl)
theorem dX8_readsTimes_49 : decode cX8_readsTimes 49 = .ok (.return_, 1) := dk_177 (dk_at dksX8_readsTimes_2 3 rfl rfl)
abbrev cX8_isAct : ByteArray := prog_18_method_112_code
def yX8_isAct : MethodName := ⟨RX8, "isAct", "(I)Z"⟩
def dkwX8_isAct_2 : List UInt8 := [4, 167, 0, 4, 3, 172]
abbrev dktX8_isAct_2 : List UInt8 := dkwX8_isAct_2 ++ []
def dkwX8_isAct_1 : List UInt8 := [26, 16, 119, 159, 0, 21, 26, 16, 114, 159, 0, 15, 26, 16, 120, 159, 0, 9, 26, 16, 106, 160, 0, 7]
abbrev dktX8_isAct_1 : List UInt8 := dkwX8_isAct_1 ++ dktX8_isAct_2
def dkwX8_isAct_0 : List UInt8 := [26, 16, 46, 159, 0, 45, 26, 16, 107, 159, 0, 39, 26, 16, 117, 159, 0, 33, 26, 16, 99, 159, 0, 27]
abbrev dktX8_isAct_0 : List UInt8 := dkwX8_isAct_0 ++ dktX8_isAct_1
theorem dksX8_isAct_0 : cX8_isAct.data.toList.drop 0 = dktX8_isAct_0 := by decide +kernel
theorem dksX8_isAct_1 : cX8_isAct.data.toList.drop 24 = dktX8_isAct_1 := dk_seg dksX8_isAct_0 24 rfl rfl
theorem dksX8_isAct_2 : cX8_isAct.data.toList.drop 48 = dktX8_isAct_2 := dk_seg dksX8_isAct_1 24 rfl rfl
theorem dX8_isAct_0 : decode cX8_isAct 0 = .ok (.iload_n 0, 1) := dk_26 (dk_at dksX8_isAct_0 0 rfl rfl)
theorem dX8_isAct_1 : decode cX8_isAct 1 = .ok (.bipush 46, 2) := dk_16 46 (dk_at dksX8_isAct_0 1 rfl rfl)
theorem dX8_isAct_3 : decode cX8_isAct 3 = .ok (.if_icmp .eq 45, 3) := dk_159 0 45 (dk_at dksX8_isAct_0 3 rfl rfl)
theorem dX8_isAct_6 : decode cX8_isAct 6 = .ok (.iload_n 0, 1) := dk_26 (dk_at dksX8_isAct_0 6 rfl rfl)
theorem dX8_isAct_7 : decode cX8_isAct 7 = .ok (.bipush 107, 2) := dk_16 107 (dk_at dksX8_isAct_0 7 rfl rfl)
theorem dX8_isAct_9 : decode cX8_isAct 9 = .ok (.if_icmp .eq 39, 3) := dk_159 0 39 (dk_at dksX8_isAct_0 9 rfl rfl)
theorem dX8_isAct_12 : decode cX8_isAct 12 = .ok (.iload_n 0, 1) := dk_26 (dk_at dksX8_isAct_0 12 rfl rfl)
theorem dX8_isAct_13 : decode cX8_isAct 13 = .ok (.bipush 117, 2) := dk_16 117 (dk_at dksX8_isAct_0 13 rfl rfl)
theorem dX8_isAct_15 : decode cX8_isAct 15 = .ok (.if_icmp .eq 33, 3) := dk_159 0 33 (dk_at dksX8_isAct_0 15 rfl rfl)
theorem dX8_isAct_18 : decode cX8_isAct 18 = .ok (.iload_n 0, 1) := dk_26 (dk_at dksX8_isAct_0 18 rfl rfl)
theorem dX8_isAct_19 : decode cX8_isAct 19 = .ok (.bipush 99, 2) := dk_16 99 (dk_at dksX8_isAct_0 19 rfl rfl)
theorem dX8_isAct_21 : decode cX8_isAct 21 = .ok (.if_icmp .eq 27, 3) := dk_159 0 27 (dk_at dksX8_isAct_0 21 rfl rfl)
theorem dX8_isAct_24 : decode cX8_isAct 24 = .ok (.iload_n 0, 1) := dk_26 (dk_at dksX8_isAct_1 0 rfl rfl)
theorem dX8_isAct_25 : decode cX8_isAct 25 = .ok (.bipush 119, 2) := dk_16 119 (dk_at dksX8_isAct_1 1 rfl rfl)
theorem dX8_isAct_27 : decode cX8_isAct 27 = .ok (.if_icmp .eq 21, 3) := dk_159 0 21 (dk_at dksX8_isAct_1 3 rfl rfl)
theorem dX8_isAct_30 : decode cX8_isAct 30 = .ok (.iload_n 0, 1) := dk_26 (dk_at dksX8_isAct_1 6 rfl rfl)
theorem dX8_isAct_31 : decode cX8_isAct 31 = .ok (.bipush 114, 2) := dk_16 114 (dk_at dksX8_isAct_1 7 rfl rfl)
theorem dX8_isAct_33 : decode cX8_isAct 33 = .ok (.if_icmp .eq 15, 3) := dk_159 0 15 (dk_at dksX8_isAct_1 9 rfl rfl)
theorem dX8_isAct_36 : decode cX8_isAct 36 = .ok (.iload_n 0, 1) := dk_26 (dk_at dksX8_isAct_1 12 rfl rfl)
theorem dX8_isAct_37 : decode cX8_isAct 37 = .ok (.bipush 120, 2) := dk_16 120 (dk_at dksX8_isAct_1 13 rfl rfl)
theorem dX8_isAct_39 : decode cX8_isAct 39 = .ok (.if_icmp .eq 9, 3) := dk_159 0 9 (dk_at dksX8_isAct_1 15 rfl rfl)
theorem dX8_isAct_42 : decode cX8_isAct 42 = .ok (.iload_n 0, 1) := dk_26 (dk_at dksX8_isAct_1 18 rfl rfl)
theorem dX8_isAct_43 : decode cX8_isAct 43 = .ok (.bipush 106, 2) := dk_16 106 (dk_at dksX8_isAct_1 19 rfl rfl)
theorem dX8_isAct_45 : decode cX8_isAct 45 = .ok (.if_icmp .ne 7, 3) := dk_160 0 7 (dk_at dksX8_isAct_1 21 rfl rfl)
theorem dX8_isAct_48 : decode cX8_isAct 48 = .ok (.iconst 1, 1) := dk_4 (dk_at dksX8_isAct_2 0 rfl rfl)
theorem dX8_isAct_49 : decode cX8_isAct 49 = .ok (.goto 4, 3) := dk_167 0 4 (dk_at dksX8_isAct_2 1 rfl rfl)
theorem dX8_isAct_52 : decode cX8_isAct 52 = .ok (.iconst 0, 1) := dk_3 (dk_at dksX8_isAct_2 4 rfl rfl)
theorem dX8_isAct_53 : decode cX8_isAct 53 = .ok (.ireturn, 1) := dk_172 (dk_at dksX8_isAct_2 5 rfl rfl)
abbrev cX8_readsNumbers : ByteArray := prog_18_method_111_code
def yX8_readsNumbers : MethodName := ⟨RX8, "readsNumbers", "(I)Z"⟩
def dkwX8_readsNumbers_6 : List UInt8 := [42, 16, 9, 182, 1, 182, 154, 0, 5, 3, 172, 42, 42, 180, 0, 171, 181, 1, 179, 4, 172]
abbrev dktX8_readsNumbers_6 : List UInt8 := dkwX8_readsNumbers_6 ++ []
def dkwX8_readsNumbers_5 : List UInt8 := [160, 0, 16, 42, 16, 7, 42, 180, 0, 154, 4, 100, 182, 0, 167, 172, 27, 16, 119, 159, 0, 5, 4, 172]
abbrev dktX8_readsNumbers_5 : List UInt8 := dkwX8_readsNumbers_5 ++ dktX8_readsNumbers_6
def dkwX8_readsNumbers_4 : List UInt8 := [181, 1, 176, 27, 16, 120, 159, 0, 9, 27, 16, 106, 160, 0, 27, 42, 180, 1, 173, 42, 180, 1, 176]
abbrev dktX8_readsNumbers_4 : List UInt8 := dkwX8_readsNumbers_4 ++ dktX8_readsNumbers_5
def dkwX8_readsNumbers_3 : List UInt8 := [160, 0, 8, 16, 6, 167, 0, 5, 16, 7, 182, 1, 182, 154, 0, 5, 3, 172, 42, 42, 180, 0, 171]
abbrev dktX8_readsNumbers_3 : List UInt8 := dkwX8_readsNumbers_3 ++ dktX8_readsNumbers_4
def dkwX8_readsNumbers_2 : List UInt8 := [27, 16, 117, 159, 0, 9, 27, 16, 99, 160, 0, 5, 4, 172, 42, 27, 16, 120, 159, 0, 9, 27, 16, 106]
abbrev dktX8_readsNumbers_2 : List UInt8 := dkwX8_readsNumbers_2 ++ dktX8_readsNumbers_3
def dkwX8_readsNumbers_1 : List UInt8 := [16, 6, 182, 1, 182, 154, 0, 5, 3, 172, 42, 42, 180, 0, 171, 181, 1, 173, 27, 16, 107, 159, 0, 15]
abbrev dktX8_readsNumbers_1 : List UInt8 := dkwX8_readsNumbers_1 ++ dktX8_readsNumbers_2
def dkwX8_readsNumbers_0 : List UInt8 := [42, 3, 181, 1, 173, 42, 3, 181, 1, 176, 42, 3, 181, 1, 179, 27, 16, 46, 160, 0, 5, 4, 172, 42]
abbrev dktX8_readsNumbers_0 : List UInt8 := dkwX8_readsNumbers_0 ++ dktX8_readsNumbers_1
theorem dksX8_readsNumbers_0 : cX8_readsNumbers.data.toList.drop 0 = dktX8_readsNumbers_0 := by decide +kernel
theorem dksX8_readsNumbers_1 : cX8_readsNumbers.data.toList.drop 24 = dktX8_readsNumbers_1 := dk_seg dksX8_readsNumbers_0 24 rfl rfl
theorem dksX8_readsNumbers_2 : cX8_readsNumbers.data.toList.drop 48 = dktX8_readsNumbers_2 := dk_seg dksX8_readsNumbers_1 24 rfl rfl
theorem dksX8_readsNumbers_3 : cX8_readsNumbers.data.toList.drop 72 = dktX8_readsNumbers_3 := dk_seg dksX8_readsNumbers_2 24 rfl rfl
theorem dksX8_readsNumbers_4 : cX8_readsNumbers.data.toList.drop 95 = dktX8_readsNumbers_4 := dk_seg dksX8_readsNumbers_3 23 rfl rfl
theorem dksX8_readsNumbers_5 : cX8_readsNumbers.data.toList.drop 118 = dktX8_readsNumbers_5 := dk_seg dksX8_readsNumbers_4 23 rfl rfl
theorem dksX8_readsNumbers_6 : cX8_readsNumbers.data.toList.drop 142 = dktX8_readsNumbers_6 := dk_seg dksX8_readsNumbers_5 24 rfl rfl
theorem dX8_readsNumbers_0 : decode cX8_readsNumbers 0 = .ok (.aload_n 0, 1) := dk_42 (dk_at dksX8_readsNumbers_0 0 rfl rfl)
theorem dX8_readsNumbers_1 : decode cX8_readsNumbers 1 = .ok (.iconst 0, 1) := dk_3 (dk_at dksX8_readsNumbers_0 1 rfl rfl)
theorem dX8_readsNumbers_2 : decode cX8_readsNumbers 2 = .ok (.putfield 429, 3) := dk_181 1 173 (dk_at dksX8_readsNumbers_0 2 rfl rfl)
theorem dX8_readsNumbers_5 : decode cX8_readsNumbers 5 = .ok (.aload_n 0, 1) := dk_42 (dk_at dksX8_readsNumbers_0 5 rfl rfl)
theorem dX8_readsNumbers_6 : decode cX8_readsNumbers 6 = .ok (.iconst 0, 1) := dk_3 (dk_at dksX8_readsNumbers_0 6 rfl rfl)
theorem dX8_readsNumbers_7 : decode cX8_readsNumbers 7 = .ok (.putfield 432, 3) := dk_181 1 176 (dk_at dksX8_readsNumbers_0 7 rfl rfl)
theorem dX8_readsNumbers_10 : decode cX8_readsNumbers 10 = .ok (.aload_n 0, 1) := dk_42 (dk_at dksX8_readsNumbers_0 10 rfl rfl)
theorem dX8_readsNumbers_11 : decode cX8_readsNumbers 11 = .ok (.iconst 0, 1) := dk_3 (dk_at dksX8_readsNumbers_0 11 rfl rfl)
theorem dX8_readsNumbers_12 : decode cX8_readsNumbers 12 = .ok (.putfield 435, 3) := dk_181 1 179 (dk_at dksX8_readsNumbers_0 12 rfl rfl)
theorem dX8_readsNumbers_15 : decode cX8_readsNumbers 15 = .ok (.iload_n 1, 1) := dk_27 (dk_at dksX8_readsNumbers_0 15 rfl rfl)
theorem dX8_readsNumbers_16 : decode cX8_readsNumbers 16 = .ok (.bipush 46, 2) := dk_16 46 (dk_at dksX8_readsNumbers_0 16 rfl rfl)
theorem dX8_readsNumbers_18 : decode cX8_readsNumbers 18 = .ok (.if_icmp .ne 5, 3) := dk_160 0 5 (dk_at dksX8_readsNumbers_0 18 rfl rfl)
theorem dX8_readsNumbers_21 : decode cX8_readsNumbers 21 = .ok (.iconst 1, 1) := dk_4 (dk_at dksX8_readsNumbers_0 21 rfl rfl)
theorem dX8_readsNumbers_22 : decode cX8_readsNumbers 22 = .ok (.ireturn, 1) := dk_172 (dk_at dksX8_readsNumbers_0 22 rfl rfl)
theorem dX8_readsNumbers_23 : decode cX8_readsNumbers 23 = .ok (.aload_n 0, 1) := dk_42 (dk_at dksX8_readsNumbers_0 23 rfl rfl)
theorem dX8_readsNumbers_24 : decode cX8_readsNumbers 24 = .ok (.bipush 6, 2) := dk_16 6 (dk_at dksX8_readsNumbers_1 0 rfl rfl)
theorem dX8_readsNumbers_26 : decode cX8_readsNumbers 26 = .ok (.invokevirtual 438, 3) := dk_182 1 182 (dk_at dksX8_readsNumbers_1 2 rfl rfl)
theorem dX8_readsNumbers_29 : decode cX8_readsNumbers 29 = .ok (.ifCond .ne 5, 3) := dk_154 0 5 (dk_at dksX8_readsNumbers_1 5 rfl rfl)
theorem dX8_readsNumbers_32 : decode cX8_readsNumbers 32 = .ok (.iconst 0, 1) := dk_3 (dk_at dksX8_readsNumbers_1 8 rfl rfl)
theorem dX8_readsNumbers_33 : decode cX8_readsNumbers 33 = .ok (.ireturn, 1) := dk_172 (dk_at dksX8_readsNumbers_1 9 rfl rfl)
theorem dX8_readsNumbers_34 : decode cX8_readsNumbers 34 = .ok (.aload_n 0, 1) := dk_42 (dk_at dksX8_readsNumbers_1 10 rfl rfl)
theorem dX8_readsNumbers_35 : decode cX8_readsNumbers 35 = .ok (.aload_n 0, 1) := dk_42 (dk_at dksX8_readsNumbers_1 11 rfl rfl)
theorem dX8_readsNumbers_36 : decode cX8_readsNumbers 36 = .ok (.getfield 171, 3) := dk_180 0 171 (dk_at dksX8_readsNumbers_1 12 rfl rfl)
theorem dX8_readsNumbers_39 : decode cX8_readsNumbers 39 = .ok (.putfield 429, 3) := dk_181 1 173 (dk_at dksX8_readsNumbers_1 15 rfl rfl)
theorem dX8_readsNumbers_42 : decode cX8_readsNumbers 42 = .ok (.iload_n 1, 1) := dk_27 (dk_at dksX8_readsNumbers_1 18 rfl rfl)
theorem dX8_readsNumbers_43 : decode cX8_readsNumbers 43 = .ok (.bipush 107, 2) := dk_16 107 (dk_at dksX8_readsNumbers_1 19 rfl rfl)
theorem dX8_readsNumbers_45 : decode cX8_readsNumbers 45 = .ok (.if_icmp .eq 15, 3) := dk_159 0 15 (dk_at dksX8_readsNumbers_1 21 rfl rfl)
theorem dX8_readsNumbers_48 : decode cX8_readsNumbers 48 = .ok (.iload_n 1, 1) := dk_27 (dk_at dksX8_readsNumbers_2 0 rfl rfl)
theorem dX8_readsNumbers_49 : decode cX8_readsNumbers 49 = .ok (.bipush 117, 2) := dk_16 117 (dk_at dksX8_readsNumbers_2 1 rfl rfl)
theorem dX8_readsNumbers_51 : decode cX8_readsNumbers 51 = .ok (.if_icmp .eq 9, 3) := dk_159 0 9 (dk_at dksX8_readsNumbers_2 3 rfl rfl)
theorem dX8_readsNumbers_54 : decode cX8_readsNumbers 54 = .ok (.iload_n 1, 1) := dk_27 (dk_at dksX8_readsNumbers_2 6 rfl rfl)
theorem dX8_readsNumbers_55 : decode cX8_readsNumbers 55 = .ok (.bipush 99, 2) := dk_16 99 (dk_at dksX8_readsNumbers_2 7 rfl rfl)
theorem dX8_readsNumbers_57 : decode cX8_readsNumbers 57 = .ok (.if_icmp .ne 5, 3) := dk_160 0 5 (dk_at dksX8_readsNumbers_2 9 rfl rfl)
theorem dX8_readsNumbers_60 : decode cX8_readsNumbers 60 = .ok (.iconst 1, 1) := dk_4 (dk_at dksX8_readsNumbers_2 12 rfl rfl)
theorem dX8_readsNumbers_61 : decode cX8_readsNumbers 61 = .ok (.ireturn, 1) := dk_172 (dk_at dksX8_readsNumbers_2 13 rfl rfl)
theorem dX8_readsNumbers_62 : decode cX8_readsNumbers 62 = .ok (.aload_n 0, 1) := dk_42 (dk_at dksX8_readsNumbers_2 14 rfl rfl)
theorem dX8_readsNumbers_63 : decode cX8_readsNumbers 63 = .ok (.iload_n 1, 1) := dk_27 (dk_at dksX8_readsNumbers_2 15 rfl rfl)
theorem dX8_readsNumbers_64 : decode cX8_readsNumbers 64 = .ok (.bipush 120, 2) := dk_16 120 (dk_at dksX8_readsNumbers_2 16 rfl rfl)
theorem dX8_readsNumbers_66 : decode cX8_readsNumbers 66 = .ok (.if_icmp .eq 9, 3) := dk_159 0 9 (dk_at dksX8_readsNumbers_2 18 rfl rfl)
theorem dX8_readsNumbers_69 : decode cX8_readsNumbers 69 = .ok (.iload_n 1, 1) := dk_27 (dk_at dksX8_readsNumbers_2 21 rfl rfl)
theorem dX8_readsNumbers_70 : decode cX8_readsNumbers 70 = .ok (.bipush 106, 2) := dk_16 106 (dk_at dksX8_readsNumbers_2 22 rfl rfl)
theorem dX8_readsNumbers_72 : decode cX8_readsNumbers 72 = .ok (.if_icmp .ne 8, 3) := dk_160 0 8 (dk_at dksX8_readsNumbers_3 0 rfl rfl)
theorem dX8_readsNumbers_75 : decode cX8_readsNumbers 75 = .ok (.bipush 6, 2) := dk_16 6 (dk_at dksX8_readsNumbers_3 3 rfl rfl)
theorem dX8_readsNumbers_77 : decode cX8_readsNumbers 77 = .ok (.goto 5, 3) := dk_167 0 5 (dk_at dksX8_readsNumbers_3 5 rfl rfl)
theorem dX8_readsNumbers_80 : decode cX8_readsNumbers 80 = .ok (.bipush 7, 2) := dk_16 7 (dk_at dksX8_readsNumbers_3 8 rfl rfl)
theorem dX8_readsNumbers_82 : decode cX8_readsNumbers 82 = .ok (.invokevirtual 438, 3) := dk_182 1 182 (dk_at dksX8_readsNumbers_3 10 rfl rfl)
theorem dX8_readsNumbers_85 : decode cX8_readsNumbers 85 = .ok (.ifCond .ne 5, 3) := dk_154 0 5 (dk_at dksX8_readsNumbers_3 13 rfl rfl)
theorem dX8_readsNumbers_88 : decode cX8_readsNumbers 88 = .ok (.iconst 0, 1) := dk_3 (dk_at dksX8_readsNumbers_3 16 rfl rfl)
theorem dX8_readsNumbers_89 : decode cX8_readsNumbers 89 = .ok (.ireturn, 1) := dk_172 (dk_at dksX8_readsNumbers_3 17 rfl rfl)
theorem dX8_readsNumbers_90 : decode cX8_readsNumbers 90 = .ok (.aload_n 0, 1) := dk_42 (dk_at dksX8_readsNumbers_3 18 rfl rfl)
theorem dX8_readsNumbers_91 : decode cX8_readsNumbers 91 = .ok (.aload_n 0, 1) := dk_42 (dk_at dksX8_readsNumbers_3 19 rfl rfl)
theorem dX8_readsNumbers_92 : decode cX8_readsNumbers 92 = .ok (.getfield 171, 3) := dk_180 0 171 (dk_at dksX8_readsNumbers_3 20 rfl rfl)
theorem dX8_readsNumbers_95 : decode cX8_readsNumbers 95 = .ok (.putfield 432, 3) := dk_181 1 176 (dk_at dksX8_readsNumbers_4 0 rfl rfl)
theorem dX8_readsNumbers_98 : decode cX8_readsNumbers 98 = .ok (.iload_n 1, 1) := dk_27 (dk_at dksX8_readsNumbers_4 3 rfl rfl)
theorem dX8_readsNumbers_99 : decode cX8_readsNumbers 99 = .ok (.bipush 120, 2) := dk_16 120 (dk_at dksX8_readsNumbers_4 4 rfl rfl)
theorem dX8_readsNumbers_101 : decode cX8_readsNumbers 101 = .ok (.if_icmp .eq 9, 3) := dk_159 0 9 (dk_at dksX8_readsNumbers_4 6 rfl rfl)
theorem dX8_readsNumbers_104 : decode cX8_readsNumbers 104 = .ok (.iload_n 1, 1) := dk_27 (dk_at dksX8_readsNumbers_4 9 rfl rfl)
theorem dX8_readsNumbers_105 : decode cX8_readsNumbers 105 = .ok (.bipush 106, 2) := dk_16 106 (dk_at dksX8_readsNumbers_4 10 rfl rfl)
theorem dX8_readsNumbers_107 : decode cX8_readsNumbers 107 = .ok (.if_icmp .ne 27, 3) := dk_160 0 27 (dk_at dksX8_readsNumbers_4 12 rfl rfl)
theorem dX8_readsNumbers_110 : decode cX8_readsNumbers 110 = .ok (.aload_n 0, 1) := dk_42 (dk_at dksX8_readsNumbers_4 15 rfl rfl)
theorem dX8_readsNumbers_111 : decode cX8_readsNumbers 111 = .ok (.getfield 429, 3) := dk_180 1 173 (dk_at dksX8_readsNumbers_4 16 rfl rfl)
theorem dX8_readsNumbers_114 : decode cX8_readsNumbers 114 = .ok (.aload_n 0, 1) := dk_42 (dk_at dksX8_readsNumbers_4 19 rfl rfl)
theorem dX8_readsNumbers_115 : decode cX8_readsNumbers 115 = .ok (.getfield 432, 3) := dk_180 1 176 (dk_at dksX8_readsNumbers_4 20 rfl rfl)
theorem dX8_readsNumbers_118 : decode cX8_readsNumbers 118 = .ok (.if_icmp .ne 16, 3) := dk_160 0 16 (dk_at dksX8_readsNumbers_5 0 rfl rfl)
theorem dX8_readsNumbers_121 : decode cX8_readsNumbers 121 = .ok (.aload_n 0, 1) := dk_42 (dk_at dksX8_readsNumbers_5 3 rfl rfl)
theorem dX8_readsNumbers_122 : decode cX8_readsNumbers 122 = .ok (.bipush 7, 2) := dk_16 7 (dk_at dksX8_readsNumbers_5 4 rfl rfl)
theorem dX8_readsNumbers_124 : decode cX8_readsNumbers 124 = .ok (.aload_n 0, 1) := dk_42 (dk_at dksX8_readsNumbers_5 6 rfl rfl)
theorem dX8_readsNumbers_125 : decode cX8_readsNumbers 125 = .ok (.getfield 154, 3) := dk_180 0 154 (dk_at dksX8_readsNumbers_5 7 rfl rfl)
theorem dX8_readsNumbers_128 : decode cX8_readsNumbers 128 = .ok (.iconst 1, 1) := dk_4 (dk_at dksX8_readsNumbers_5 10 rfl rfl)
theorem dX8_readsNumbers_129 : decode cX8_readsNumbers 129 = .ok (.isub, 1) := dk_100 (dk_at dksX8_readsNumbers_5 11 rfl rfl)
theorem dX8_readsNumbers_130 : decode cX8_readsNumbers 130 = .ok (.invokevirtual 167, 3) := dk_182 0 167 (dk_at dksX8_readsNumbers_5 12 rfl rfl)
theorem dX8_readsNumbers_133 : decode cX8_readsNumbers 133 = .ok (.ireturn, 1) := dk_172 (dk_at dksX8_readsNumbers_5 15 rfl rfl)
theorem dX8_readsNumbers_134 : decode cX8_readsNumbers 134 = .ok (.iload_n 1, 1) := dk_27 (dk_at dksX8_readsNumbers_5 16 rfl rfl)
theorem dX8_readsNumbers_135 : decode cX8_readsNumbers 135 = .ok (.bipush 119, 2) := dk_16 119 (dk_at dksX8_readsNumbers_5 17 rfl rfl)
theorem dX8_readsNumbers_137 : decode cX8_readsNumbers 137 = .ok (.if_icmp .eq 5, 3) := dk_159 0 5 (dk_at dksX8_readsNumbers_5 19 rfl rfl)
theorem dX8_readsNumbers_140 : decode cX8_readsNumbers 140 = .ok (.iconst 1, 1) := dk_4 (dk_at dksX8_readsNumbers_5 22 rfl rfl)
theorem dX8_readsNumbers_141 : decode cX8_readsNumbers 141 = .ok (.ireturn, 1) := dk_172 (dk_at dksX8_readsNumbers_5 23 rfl rfl)
theorem dX8_readsNumbers_142 : decode cX8_readsNumbers 142 = .ok (.aload_n 0, 1) := dk_42 (dk_at dksX8_readsNumbers_6 0 rfl rfl)
theorem dX8_readsNumbers_143 : decode cX8_readsNumbers 143 = .ok (.bipush 9, 2) := dk_16 9 (dk_at dksX8_readsNumbers_6 1 rfl rfl)
theorem dX8_readsNumbers_145 : decode cX8_readsNumbers 145 = .ok (.invokevirtual 438, 3) := dk_182 1 182 (dk_at dksX8_readsNumbers_6 3 rfl rfl)
theorem dX8_readsNumbers_148 : decode cX8_readsNumbers 148 = .ok (.ifCond .ne 5, 3) := dk_154 0 5 (dk_at dksX8_readsNumbers_6 6 rfl rfl)
theorem dX8_readsNumbers_151 : decode cX8_readsNumbers 151 = .ok (.iconst 0, 1) := dk_3 (dk_at dksX8_readsNumbers_6 9 rfl rfl)
theorem dX8_readsNumbers_152 : decode cX8_readsNumbers 152 = .ok (.ireturn, 1) := dk_172 (dk_at dksX8_readsNumbers_6 10 rfl rfl)
theorem dX8_readsNumbers_153 : decode cX8_readsNumbers 153 = .ok (.aload_n 0, 1) := dk_42 (dk_at dksX8_readsNumbers_6 11 rfl rfl)
theorem dX8_readsNumbers_154 : decode cX8_readsNumbers 154 = .ok (.aload_n 0, 1) := dk_42 (dk_at dksX8_readsNumbers_6 12 rfl rfl)
theorem dX8_readsNumbers_155 : decode cX8_readsNumbers 155 = .ok (.getfield 171, 3) := dk_180 0 171 (dk_at dksX8_readsNumbers_6 13 rfl rfl)
theorem dX8_readsNumbers_158 : decode cX8_readsNumbers 158 = .ok (.putfield 435, 3) := dk_181 1 179 (dk_at dksX8_readsNumbers_6 16 rfl rfl)
theorem dX8_readsNumbers_161 : decode cX8_readsNumbers 161 = .ok (.iconst 1, 1) := dk_4 (dk_at dksX8_readsNumbers_6 19 rfl rfl)
theorem dX8_readsNumbers_162 : decode cX8_readsNumbers 162 = .ok (.ireturn, 1) := dk_172 (dk_at dksX8_readsNumbers_6 20 rfl rfl)
abbrev cX8_readsDigit : ByteArray := prog_18_method_110_code
def yX8_readsDigit : MethodName := ⟨RX8, "readsDigit", "(I)Z"⟩
def dkwX8_readsDigit_2 : List UInt8 := [181, 0, 154, 4, 172]
abbrev dktX8_readsDigit_2 : List UInt8 := dkwX8_readsDigit_2 ++ []
def dkwX8_readsDigit_1 : List UInt8 := [182, 0, 167, 172, 42, 42, 182, 0, 160, 16, 48, 100, 181, 0, 171, 42, 42, 180, 0, 154, 4, 96]
abbrev dktX8_readsDigit_1 : List UInt8 := dkwX8_readsDigit_1 ++ dktX8_readsDigit_2
def dkwX8_readsDigit_0 : List UInt8 := [42, 182, 0, 160, 16, 48, 16, 48, 27, 96, 184, 0, 93, 154, 0, 13, 42, 4, 42, 180, 0, 154]
abbrev dktX8_readsDigit_0 : List UInt8 := dkwX8_readsDigit_0 ++ dktX8_readsDigit_1
theorem dksX8_readsDigit_0 : cX8_readsDigit.data.toList.drop 0 = dktX8_readsDigit_0 := by decide +kernel
theorem dksX8_readsDigit_1 : cX8_readsDigit.data.toList.drop 22 = dktX8_readsDigit_1 := dk_seg dksX8_readsDigit_0 22 rfl rfl
theorem dksX8_readsDigit_2 : cX8_readsDigit.data.toList.drop 44 = dktX8_readsDigit_2 := dk_seg dksX8_readsDigit_1 22 rfl rfl
theorem dX8_readsDigit_0 : decode cX8_readsDigit 0 = .ok (.aload_n 0, 1) := dk_42 (dk_at dksX8_readsDigit_0 0 rfl rfl)
theorem dX8_readsDigit_1 : decode cX8_readsDigit 1 = .ok (.invokevirtual 160, 3) := dk_182 0 160 (dk_at dksX8_readsDigit_0 1 rfl rfl)
theorem dX8_readsDigit_4 : decode cX8_readsDigit 4 = .ok (.bipush 48, 2) := dk_16 48 (dk_at dksX8_readsDigit_0 4 rfl rfl)
theorem dX8_readsDigit_6 : decode cX8_readsDigit 6 = .ok (.bipush 48, 2) := dk_16 48 (dk_at dksX8_readsDigit_0 6 rfl rfl)
theorem dX8_readsDigit_8 : decode cX8_readsDigit 8 = .ok (.iload_n 1, 1) := dk_27 (dk_at dksX8_readsDigit_0 8 rfl rfl)
theorem dX8_readsDigit_9 : decode cX8_readsDigit 9 = .ok (.iadd, 1) := dk_96 (dk_at dksX8_readsDigit_0 9 rfl rfl)
theorem dX8_readsDigit_10 : decode cX8_readsDigit 10 = .ok (.invokestatic 93, 3) := dk_184 0 93 (dk_at dksX8_readsDigit_0 10 rfl rfl)
theorem dX8_readsDigit_13 : decode cX8_readsDigit 13 = .ok (.ifCond .ne 13, 3) := dk_154 0 13 (dk_at dksX8_readsDigit_0 13 rfl rfl)
theorem dX8_readsDigit_16 : decode cX8_readsDigit 16 = .ok (.aload_n 0, 1) := dk_42 (dk_at dksX8_readsDigit_0 16 rfl rfl)
theorem dX8_readsDigit_17 : decode cX8_readsDigit 17 = .ok (.iconst 1, 1) := dk_4 (dk_at dksX8_readsDigit_0 17 rfl rfl)
theorem dX8_readsDigit_18 : decode cX8_readsDigit 18 = .ok (.aload_n 0, 1) := dk_42 (dk_at dksX8_readsDigit_0 18 rfl rfl)
theorem dX8_readsDigit_19 : decode cX8_readsDigit 19 = .ok (.getfield 154, 3) := dk_180 0 154 (dk_at dksX8_readsDigit_0 19 rfl rfl)
theorem dX8_readsDigit_22 : decode cX8_readsDigit 22 = .ok (.invokevirtual 167, 3) := dk_182 0 167 (dk_at dksX8_readsDigit_1 0 rfl rfl)
theorem dX8_readsDigit_25 : decode cX8_readsDigit 25 = .ok (.ireturn, 1) := dk_172 (dk_at dksX8_readsDigit_1 3 rfl rfl)
theorem dX8_readsDigit_26 : decode cX8_readsDigit 26 = .ok (.aload_n 0, 1) := dk_42 (dk_at dksX8_readsDigit_1 4 rfl rfl)
theorem dX8_readsDigit_27 : decode cX8_readsDigit 27 = .ok (.aload_n 0, 1) := dk_42 (dk_at dksX8_readsDigit_1 5 rfl rfl)
theorem dX8_readsDigit_28 : decode cX8_readsDigit 28 = .ok (.invokevirtual 160, 3) := dk_182 0 160 (dk_at dksX8_readsDigit_1 6 rfl rfl)
theorem dX8_readsDigit_31 : decode cX8_readsDigit 31 = .ok (.bipush 48, 2) := dk_16 48 (dk_at dksX8_readsDigit_1 9 rfl rfl)
theorem dX8_readsDigit_33 : decode cX8_readsDigit 33 = .ok (.isub, 1) := dk_100 (dk_at dksX8_readsDigit_1 11 rfl rfl)
theorem dX8_readsDigit_34 : decode cX8_readsDigit 34 = .ok (.putfield 171, 3) := dk_181 0 171 (dk_at dksX8_readsDigit_1 12 rfl rfl)
theorem dX8_readsDigit_37 : decode cX8_readsDigit 37 = .ok (.aload_n 0, 1) := dk_42 (dk_at dksX8_readsDigit_1 15 rfl rfl)
theorem dX8_readsDigit_38 : decode cX8_readsDigit 38 = .ok (.aload_n 0, 1) := dk_42 (dk_at dksX8_readsDigit_1 16 rfl rfl)
theorem dX8_readsDigit_39 : decode cX8_readsDigit 39 = .ok (.getfield 154, 3) := dk_180 0 154 (dk_at dksX8_readsDigit_1 17 rfl rfl)
theorem dX8_readsDigit_42 : decode cX8_readsDigit 42 = .ok (.iconst 1, 1) := dk_4 (dk_at dksX8_readsDigit_1 20 rfl rfl)
theorem dX8_readsDigit_43 : decode cX8_readsDigit 43 = .ok (.iadd, 1) := dk_96 (dk_at dksX8_readsDigit_1 21 rfl rfl)
theorem dX8_readsDigit_44 : decode cX8_readsDigit 44 = .ok (.putfield 154, 3) := dk_181 0 154 (dk_at dksX8_readsDigit_2 0 rfl rfl)
theorem dX8_readsDigit_47 : decode cX8_readsDigit 47 = .ok (.iconst 1, 1) := dk_4 (dk_at dksX8_readsDigit_2 3 rfl rfl)
theorem dX8_readsDigit_48 : decode cX8_readsDigit 48 = .ok (.ireturn, 1) := dk_172 (dk_at dksX8_readsDigit_2 4 rfl rfl)
abbrev cX8_repeats : ByteArray := prog_18_method_109_code
def yX8_repeats : MethodName := ⟨RX8, "repeats", "(III)Z"⟩
def dkwX8_repeats_5 : List UInt8 := [167, 255, 174, 42, 27, 21, 4, 28, 104, 96, 181, 1, 170, 4, 172]
abbrev dktX8_repeats_5 : List UInt8 := dkwX8_repeats_5 ++ []
def dkwX8_repeats_4 : List UInt8 := [100, 46, 79, 42, 180, 0, 77, 21, 5, 42, 180, 0, 77, 21, 5, 21, 4, 100, 46, 79, 132, 5, 1]
abbrev dktX8_repeats_4 : List UInt8 := dkwX8_repeats_4 ++ dktX8_repeats_5
def dkwX8_repeats_3 : List UInt8 := [180, 0, 71, 21, 5, 21, 4, 100, 46, 79, 42, 180, 0, 74, 21, 5, 42, 180, 0, 74, 21, 5, 21, 4]
abbrev dktX8_repeats_3 : List UInt8 := dkwX8_repeats_3 ++ dktX8_repeats_4
def dkwX8_repeats_2 : List UInt8 := [180, 0, 68, 21, 5, 42, 180, 0, 68, 21, 5, 21, 4, 100, 46, 79, 42, 180, 0, 71, 21, 5, 42]
abbrev dktX8_repeats_2 : List UInt8 := dkwX8_repeats_2 ++ dktX8_repeats_3
def dkwX8_repeats_1 : List UInt8 := [182, 0, 167, 172, 27, 21, 4, 96, 54, 5, 21, 5, 27, 21, 4, 28, 104, 96, 162, 0, 77, 42]
abbrev dktX8_repeats_1 : List UInt8 := dkwX8_repeats_1 ++ dktX8_repeats_2
def dkwX8_repeats_0 : List UInt8 := [42, 180, 1, 170, 27, 100, 54, 4, 27, 21, 4, 28, 104, 96, 17, 0, 200, 164, 0, 11, 42, 16, 6, 29]
abbrev dktX8_repeats_0 : List UInt8 := dkwX8_repeats_0 ++ dktX8_repeats_1
theorem dksX8_repeats_0 : cX8_repeats.data.toList.drop 0 = dktX8_repeats_0 := by decide +kernel
theorem dksX8_repeats_1 : cX8_repeats.data.toList.drop 24 = dktX8_repeats_1 := dk_seg dksX8_repeats_0 24 rfl rfl
theorem dksX8_repeats_2 : cX8_repeats.data.toList.drop 46 = dktX8_repeats_2 := dk_seg dksX8_repeats_1 22 rfl rfl
theorem dksX8_repeats_3 : cX8_repeats.data.toList.drop 69 = dktX8_repeats_3 := dk_seg dksX8_repeats_2 23 rfl rfl
theorem dksX8_repeats_4 : cX8_repeats.data.toList.drop 93 = dktX8_repeats_4 := dk_seg dksX8_repeats_3 24 rfl rfl
theorem dksX8_repeats_5 : cX8_repeats.data.toList.drop 116 = dktX8_repeats_5 := dk_seg dksX8_repeats_4 23 rfl rfl
theorem dX8_repeats_0 : decode cX8_repeats 0 = .ok (.aload_n 0, 1) := dk_42 (dk_at dksX8_repeats_0 0 rfl rfl)
theorem dX8_repeats_1 : decode cX8_repeats 1 = .ok (.getfield 426, 3) := dk_180 1 170 (dk_at dksX8_repeats_0 1 rfl rfl)
theorem dX8_repeats_4 : decode cX8_repeats 4 = .ok (.iload_n 1, 1) := dk_27 (dk_at dksX8_repeats_0 4 rfl rfl)
theorem dX8_repeats_5 : decode cX8_repeats 5 = .ok (.isub, 1) := dk_100 (dk_at dksX8_repeats_0 5 rfl rfl)
theorem dX8_repeats_6 : decode cX8_repeats 6 = .ok (.istore 4, 2) := dk_54 4 (dk_at dksX8_repeats_0 6 rfl rfl)
theorem dX8_repeats_8 : decode cX8_repeats 8 = .ok (.iload_n 1, 1) := dk_27 (dk_at dksX8_repeats_0 8 rfl rfl)
theorem dX8_repeats_9 : decode cX8_repeats 9 = .ok (.iload 4, 2) := dk_21 4 (dk_at dksX8_repeats_0 9 rfl rfl)
theorem dX8_repeats_11 : decode cX8_repeats 11 = .ok (.iload_n 2, 1) := dk_28 (dk_at dksX8_repeats_0 11 rfl rfl)
theorem dX8_repeats_12 : decode cX8_repeats 12 = .ok (.imul, 1) := dk_104 (dk_at dksX8_repeats_0 12 rfl rfl)
theorem dX8_repeats_13 : decode cX8_repeats 13 = .ok (.iadd, 1) := dk_96 (dk_at dksX8_repeats_0 13 rfl rfl)
theorem dX8_repeats_14 : decode cX8_repeats 14 = .ok (.sipush 200, 3) := dk_17 0 200 (dk_at dksX8_repeats_0 14 rfl rfl)
theorem dX8_repeats_17 : decode cX8_repeats 17 = .ok (.if_icmp .le 11, 3) := dk_164 0 11 (dk_at dksX8_repeats_0 17 rfl rfl)
theorem dX8_repeats_20 : decode cX8_repeats 20 = .ok (.aload_n 0, 1) := dk_42 (dk_at dksX8_repeats_0 20 rfl rfl)
theorem dX8_repeats_21 : decode cX8_repeats 21 = .ok (.bipush 6, 2) := dk_16 6 (dk_at dksX8_repeats_0 21 rfl rfl)
theorem dX8_repeats_23 : decode cX8_repeats 23 = .ok (.iload_n 3, 1) := dk_29 (dk_at dksX8_repeats_0 23 rfl rfl)
theorem dX8_repeats_24 : decode cX8_repeats 24 = .ok (.invokevirtual 167, 3) := dk_182 0 167 (dk_at dksX8_repeats_1 0 rfl rfl)
theorem dX8_repeats_27 : decode cX8_repeats 27 = .ok (.ireturn, 1) := dk_172 (dk_at dksX8_repeats_1 3 rfl rfl)
theorem dX8_repeats_28 : decode cX8_repeats 28 = .ok (.iload_n 1, 1) := dk_27 (dk_at dksX8_repeats_1 4 rfl rfl)
theorem dX8_repeats_29 : decode cX8_repeats 29 = .ok (.iload 4, 2) := dk_21 4 (dk_at dksX8_repeats_1 5 rfl rfl)
theorem dX8_repeats_31 : decode cX8_repeats 31 = .ok (.iadd, 1) := dk_96 (dk_at dksX8_repeats_1 7 rfl rfl)
theorem dX8_repeats_32 : decode cX8_repeats 32 = .ok (.istore 5, 2) := dk_54 5 (dk_at dksX8_repeats_1 8 rfl rfl)
theorem dX8_repeats_34 : decode cX8_repeats 34 = .ok (.iload 5, 2) := dk_21 5 (dk_at dksX8_repeats_1 10 rfl rfl)
theorem dX8_repeats_36 : decode cX8_repeats 36 = .ok (.iload_n 1, 1) := dk_27 (dk_at dksX8_repeats_1 12 rfl rfl)
theorem dX8_repeats_37 : decode cX8_repeats 37 = .ok (.iload 4, 2) := dk_21 4 (dk_at dksX8_repeats_1 13 rfl rfl)
theorem dX8_repeats_39 : decode cX8_repeats 39 = .ok (.iload_n 2, 1) := dk_28 (dk_at dksX8_repeats_1 15 rfl rfl)
theorem dX8_repeats_40 : decode cX8_repeats 40 = .ok (.imul, 1) := dk_104 (dk_at dksX8_repeats_1 16 rfl rfl)
theorem dX8_repeats_41 : decode cX8_repeats 41 = .ok (.iadd, 1) := dk_96 (dk_at dksX8_repeats_1 17 rfl rfl)
theorem dX8_repeats_42 : decode cX8_repeats 42 = .ok (.if_icmp .ge 77, 3) := dk_162 0 77 (dk_at dksX8_repeats_1 18 rfl rfl)
theorem dX8_repeats_45 : decode cX8_repeats 45 = .ok (.aload_n 0, 1) := dk_42 (dk_at dksX8_repeats_1 21 rfl rfl)
theorem dX8_repeats_46 : decode cX8_repeats 46 = .ok (.getfield 68, 3) := dk_180 0 68 (dk_at dksX8_repeats_2 0 rfl rfl)
theorem dX8_repeats_49 : decode cX8_repeats 49 = .ok (.iload 5, 2) := dk_21 5 (dk_at dksX8_repeats_2 3 rfl rfl)
theorem dX8_repeats_51 : decode cX8_repeats 51 = .ok (.aload_n 0, 1) := dk_42 (dk_at dksX8_repeats_2 5 rfl rfl)
theorem dX8_repeats_52 : decode cX8_repeats 52 = .ok (.getfield 68, 3) := dk_180 0 68 (dk_at dksX8_repeats_2 6 rfl rfl)
theorem dX8_repeats_55 : decode cX8_repeats 55 = .ok (.iload 5, 2) := dk_21 5 (dk_at dksX8_repeats_2 9 rfl rfl)
theorem dX8_repeats_57 : decode cX8_repeats 57 = .ok (.iload 4, 2) := dk_21 4 (dk_at dksX8_repeats_2 11 rfl rfl)
theorem dX8_repeats_59 : decode cX8_repeats 59 = .ok (.isub, 1) := dk_100 (dk_at dksX8_repeats_2 13 rfl rfl)
theorem dX8_repeats_60 : decode cX8_repeats 60 = .ok (.iaload, 1) := dk_46 (dk_at dksX8_repeats_2 14 rfl rfl)
theorem dX8_repeats_61 : decode cX8_repeats 61 = .ok (.iastore, 1) := dk_79 (dk_at dksX8_repeats_2 15 rfl rfl)
theorem dX8_repeats_62 : decode cX8_repeats 62 = .ok (.aload_n 0, 1) := dk_42 (dk_at dksX8_repeats_2 16 rfl rfl)
theorem dX8_repeats_63 : decode cX8_repeats 63 = .ok (.getfield 71, 3) := dk_180 0 71 (dk_at dksX8_repeats_2 17 rfl rfl)
theorem dX8_repeats_66 : decode cX8_repeats 66 = .ok (.iload 5, 2) := dk_21 5 (dk_at dksX8_repeats_2 20 rfl rfl)
theorem dX8_repeats_68 : decode cX8_repeats 68 = .ok (.aload_n 0, 1) := dk_42 (dk_at dksX8_repeats_2 22 rfl rfl)
theorem dX8_repeats_69 : decode cX8_repeats 69 = .ok (.getfield 71, 3) := dk_180 0 71 (dk_at dksX8_repeats_3 0 rfl rfl)
theorem dX8_repeats_72 : decode cX8_repeats 72 = .ok (.iload 5, 2) := dk_21 5 (dk_at dksX8_repeats_3 3 rfl rfl)
theorem dX8_repeats_74 : decode cX8_repeats 74 = .ok (.iload 4, 2) := dk_21 4 (dk_at dksX8_repeats_3 5 rfl rfl)
theorem dX8_repeats_76 : decode cX8_repeats 76 = .ok (.isub, 1) := dk_100 (dk_at dksX8_repeats_3 7 rfl rfl)
theorem dX8_repeats_77 : decode cX8_repeats 77 = .ok (.iaload, 1) := dk_46 (dk_at dksX8_repeats_3 8 rfl rfl)
theorem dX8_repeats_78 : decode cX8_repeats 78 = .ok (.iastore, 1) := dk_79 (dk_at dksX8_repeats_3 9 rfl rfl)
theorem dX8_repeats_79 : decode cX8_repeats 79 = .ok (.aload_n 0, 1) := dk_42 (dk_at dksX8_repeats_3 10 rfl rfl)
theorem dX8_repeats_80 : decode cX8_repeats 80 = .ok (.getfield 74, 3) := dk_180 0 74 (dk_at dksX8_repeats_3 11 rfl rfl)
theorem dX8_repeats_83 : decode cX8_repeats 83 = .ok (.iload 5, 2) := dk_21 5 (dk_at dksX8_repeats_3 14 rfl rfl)
theorem dX8_repeats_85 : decode cX8_repeats 85 = .ok (.aload_n 0, 1) := dk_42 (dk_at dksX8_repeats_3 16 rfl rfl)
theorem dX8_repeats_86 : decode cX8_repeats 86 = .ok (.getfield 74, 3) := dk_180 0 74 (dk_at dksX8_repeats_3 17 rfl rfl)
theorem dX8_repeats_89 : decode cX8_repeats 89 = .ok (.iload 5, 2) := dk_21 5 (dk_at dksX8_repeats_3 20 rfl rfl)
theorem dX8_repeats_91 : decode cX8_repeats 91 = .ok (.iload 4, 2) := dk_21 4 (dk_at dksX8_repeats_3 22 rfl rfl)
theorem dX8_repeats_93 : decode cX8_repeats 93 = .ok (.isub, 1) := dk_100 (dk_at dksX8_repeats_4 0 rfl rfl)
theorem dX8_repeats_94 : decode cX8_repeats 94 = .ok (.iaload, 1) := dk_46 (dk_at dksX8_repeats_4 1 rfl rfl)
theorem dX8_repeats_95 : decode cX8_repeats 95 = .ok (.iastore, 1) := dk_79 (dk_at dksX8_repeats_4 2 rfl rfl)
theorem dX8_repeats_96 : decode cX8_repeats 96 = .ok (.aload_n 0, 1) := dk_42 (dk_at dksX8_repeats_4 3 rfl rfl)
theorem dX8_repeats_97 : decode cX8_repeats 97 = .ok (.getfield 77, 3) := dk_180 0 77 (dk_at dksX8_repeats_4 4 rfl rfl)
theorem dX8_repeats_100 : decode cX8_repeats 100 = .ok (.iload 5, 2) := dk_21 5 (dk_at dksX8_repeats_4 7 rfl rfl)
theorem dX8_repeats_102 : decode cX8_repeats 102 = .ok (.aload_n 0, 1) := dk_42 (dk_at dksX8_repeats_4 9 rfl rfl)
theorem dX8_repeats_103 : decode cX8_repeats 103 = .ok (.getfield 77, 3) := dk_180 0 77 (dk_at dksX8_repeats_4 10 rfl rfl)
theorem dX8_repeats_106 : decode cX8_repeats 106 = .ok (.iload 5, 2) := dk_21 5 (dk_at dksX8_repeats_4 13 rfl rfl)
theorem dX8_repeats_108 : decode cX8_repeats 108 = .ok (.iload 4, 2) := dk_21 4 (dk_at dksX8_repeats_4 15 rfl rfl)
theorem dX8_repeats_110 : decode cX8_repeats 110 = .ok (.isub, 1) := dk_100 (dk_at dksX8_repeats_4 17 rfl rfl)
theorem dX8_repeats_111 : decode cX8_repeats 111 = .ok (.iaload, 1) := dk_46 (dk_at dksX8_repeats_4 18 rfl rfl)
theorem dX8_repeats_112 : decode cX8_repeats 112 = .ok (.iastore, 1) := dk_79 (dk_at dksX8_repeats_4 19 rfl rfl)
theorem dX8_repeats_113 : decode cX8_repeats 113 = .ok (.iinc 5 1, 3) := dk_132 5 1 (dk_at dksX8_repeats_4 20 rfl rfl)
theorem dX8_repeats_116 : decode cX8_repeats 116 = .ok (.goto (-82), 3) := dk_167 255 174 (dk_at dksX8_repeats_5 0 rfl rfl)
theorem dX8_repeats_119 : decode cX8_repeats 119 = .ok (.aload_n 0, 1) := dk_42 (dk_at dksX8_repeats_5 3 rfl rfl)
theorem dX8_repeats_120 : decode cX8_repeats 120 = .ok (.iload_n 1, 1) := dk_27 (dk_at dksX8_repeats_5 4 rfl rfl)
theorem dX8_repeats_121 : decode cX8_repeats 121 = .ok (.iload 4, 2) := dk_21 4 (dk_at dksX8_repeats_5 5 rfl rfl)
theorem dX8_repeats_123 : decode cX8_repeats 123 = .ok (.iload_n 2, 1) := dk_28 (dk_at dksX8_repeats_5 7 rfl rfl)
theorem dX8_repeats_124 : decode cX8_repeats 124 = .ok (.imul, 1) := dk_104 (dk_at dksX8_repeats_5 8 rfl rfl)
theorem dX8_repeats_125 : decode cX8_repeats 125 = .ok (.iadd, 1) := dk_96 (dk_at dksX8_repeats_5 9 rfl rfl)
theorem dX8_repeats_126 : decode cX8_repeats 126 = .ok (.putfield 426, 3) := dk_181 1 170 (dk_at dksX8_repeats_5 10 rfl rfl)
theorem dX8_repeats_129 : decode cX8_repeats 129 = .ok (.iconst 1, 1) := dk_4 (dk_at dksX8_repeats_5 13 rfl rfl)
theorem dX8_repeats_130 : decode cX8_repeats 130 = .ok (.ireturn, 1) := dk_172 (dk_at dksX8_repeats_5 14 rfl rfl)
abbrev cX8_isDone : ByteArray := prog_18_method_114_code
def yX8_isDone : MethodName := ⟨RX8, "isDone", "(I)Z"⟩
def dkwX8_isDone_7 : List UInt8 := [4, 167, 0, 4, 3, 182, 1, 215, 172]
abbrev dktX8_isDone_7 : List UInt8 := dkwX8_isDone_7 ++ []
def dkwX8_isDone_6 : List UInt8 := [42, 42, 180, 0, 71, 27, 46, 42, 180, 0, 74, 27, 46, 42, 180, 0, 68, 27, 46, 16, 120, 160, 0, 7]
abbrev dktX8_isDone_6 : List UInt8 := dkwX8_isDone_6 ++ dktX8_isDone_7
def dkwX8_isDone_5 : List UInt8 := [42, 180, 0, 71, 27, 46, 42, 180, 0, 74, 27, 46, 182, 1, 212, 155, 0, 7, 4, 167, 0, 4, 3, 172]
abbrev dktX8_isDone_5 : List UInt8 := dkwX8_isDone_5 ++ dktX8_isDone_6
def dkwX8_isDone_4 : List UInt8 := [180, 0, 74, 27, 46, 42, 180, 0, 77, 27, 46, 182, 1, 209, 155, 0, 7, 4, 167, 0, 4, 3, 172, 42]
abbrev dktX8_isDone_4 : List UInt8 := dkwX8_isDone_4 ++ dktX8_isDone_5
def dkwX8_isDone_3 : List UInt8 := [182, 1, 203, 172, 42, 42, 180, 0, 71, 27, 46, 182, 1, 206, 172, 42, 42, 180, 0, 71, 27, 46, 42]
abbrev dktX8_isDone_3 : List UInt8 := dkwX8_isDone_3 ++ dktX8_isDone_4
def dkwX8_isDone_2 : List UInt8 := [42, 182, 1, 152, 172, 42, 42, 180, 0, 71, 27, 46, 182, 1, 200, 172, 42, 42, 180, 0, 71, 27, 46]
abbrev dktX8_isDone_2 : List UInt8 := dkwX8_isDone_2 ++ dktX8_isDone_3
def dkwX8_isDone_1 : List UInt8 := [171, 0, 0, 0, 0, 152, 0, 0, 0, 6, 0, 0, 0, 46, 0, 0, 0, 58, 0, 0, 0, 99, 0, 0, 0, 85, 0, 0, 0, 107, 0, 0, 0, 63, 0, 0, 0, 114, 0, 0, 0, 127, 0, 0, 0, 117, 0, 0, 0, 74, 0, 0, 0, 119, 0, 0, 0, 96]
abbrev dktX8_isDone_1 : List UInt8 := dkwX8_isDone_1 ++ dktX8_isDone_2
def dkwX8_isDone_0 : List UInt8 := [42, 180, 0, 68, 27, 46]
abbrev dktX8_isDone_0 : List UInt8 := dkwX8_isDone_0 ++ dktX8_isDone_1
theorem dksX8_isDone_0 : cX8_isDone.data.toList.drop 0 = dktX8_isDone_0 := by decide +kernel
theorem dksX8_isDone_1 : cX8_isDone.data.toList.drop 6 = dktX8_isDone_1 := dk_seg dksX8_isDone_0 6 rfl rfl
theorem dksX8_isDone_2 : cX8_isDone.data.toList.drop 64 = dktX8_isDone_2 := dk_seg dksX8_isDone_1 58 rfl rfl
theorem dksX8_isDone_3 : cX8_isDone.data.toList.drop 87 = dktX8_isDone_3 := dk_seg dksX8_isDone_2 23 rfl rfl
theorem dksX8_isDone_4 : cX8_isDone.data.toList.drop 110 = dktX8_isDone_4 := dk_seg dksX8_isDone_3 23 rfl rfl
theorem dksX8_isDone_5 : cX8_isDone.data.toList.drop 134 = dktX8_isDone_5 := dk_seg dksX8_isDone_4 24 rfl rfl
theorem dksX8_isDone_6 : cX8_isDone.data.toList.drop 158 = dktX8_isDone_6 := dk_seg dksX8_isDone_5 24 rfl rfl
theorem dksX8_isDone_7 : cX8_isDone.data.toList.drop 182 = dktX8_isDone_7 := dk_seg dksX8_isDone_6 24 rfl rfl
theorem dX8_isDone_0 : decode cX8_isDone 0 = .ok (.aload_n 0, 1) := dk_42 (dk_at dksX8_isDone_0 0 rfl rfl)
theorem dX8_isDone_1 : decode cX8_isDone 1 = .ok (.getfield 68, 3) := dk_180 0 68 (dk_at dksX8_isDone_0 1 rfl rfl)
theorem dX8_isDone_4 : decode cX8_isDone 4 = .ok (.iload_n 1, 1) := dk_27 (dk_at dksX8_isDone_0 4 rfl rfl)
theorem dX8_isDone_5 : decode cX8_isDone 5 = .ok (.iaload, 1) := dk_46 (dk_at dksX8_isDone_0 5 rfl rfl)
theorem dX8_isDone_6 : decode cX8_isDone 6 = .ok (.lookupswitch 152 #[(46, 58), (99, 85), (107, 63), (114, 127), (117, 74), (119, 96)], 58) := by decide +kernel
theorem dX8_isDone_64 : decode cX8_isDone 64 = .ok (.aload_n 0, 1) := dk_42 (dk_at dksX8_isDone_2 0 rfl rfl)
theorem dX8_isDone_65 : decode cX8_isDone 65 = .ok (.invokevirtual 408, 3) := dk_182 1 152 (dk_at dksX8_isDone_2 1 rfl rfl)
theorem dX8_isDone_68 : decode cX8_isDone 68 = .ok (.ireturn, 1) := dk_172 (dk_at dksX8_isDone_2 4 rfl rfl)
theorem dX8_isDone_69 : decode cX8_isDone 69 = .ok (.aload_n 0, 1) := dk_42 (dk_at dksX8_isDone_2 5 rfl rfl)
theorem dX8_isDone_70 : decode cX8_isDone 70 = .ok (.aload_n 0, 1) := dk_42 (dk_at dksX8_isDone_2 6 rfl rfl)
theorem dX8_isDone_71 : decode cX8_isDone 71 = .ok (.getfield 71, 3) := dk_180 0 71 (dk_at dksX8_isDone_2 7 rfl rfl)
theorem dX8_isDone_74 : decode cX8_isDone 74 = .ok (.iload_n 1, 1) := dk_27 (dk_at dksX8_isDone_2 10 rfl rfl)
theorem dX8_isDone_75 : decode cX8_isDone 75 = .ok (.iaload, 1) := dk_46 (dk_at dksX8_isDone_2 11 rfl rfl)
theorem dX8_isDone_76 : decode cX8_isDone 76 = .ok (.invokevirtual 456, 3) := dk_182 1 200 (dk_at dksX8_isDone_2 12 rfl rfl)
theorem dX8_isDone_79 : decode cX8_isDone 79 = .ok (.ireturn, 1) := dk_172 (dk_at dksX8_isDone_2 15 rfl rfl)
theorem dX8_isDone_80 : decode cX8_isDone 80 = .ok (.aload_n 0, 1) := dk_42 (dk_at dksX8_isDone_2 16 rfl rfl)
theorem dX8_isDone_81 : decode cX8_isDone 81 = .ok (.aload_n 0, 1) := dk_42 (dk_at dksX8_isDone_2 17 rfl rfl)
theorem dX8_isDone_82 : decode cX8_isDone 82 = .ok (.getfield 71, 3) := dk_180 0 71 (dk_at dksX8_isDone_2 18 rfl rfl)
theorem dX8_isDone_85 : decode cX8_isDone 85 = .ok (.iload_n 1, 1) := dk_27 (dk_at dksX8_isDone_2 21 rfl rfl)
theorem dX8_isDone_86 : decode cX8_isDone 86 = .ok (.iaload, 1) := dk_46 (dk_at dksX8_isDone_2 22 rfl rfl)
theorem dX8_isDone_87 : decode cX8_isDone 87 = .ok (.invokevirtual 459, 3) := dk_182 1 203 (dk_at dksX8_isDone_3 0 rfl rfl)
theorem dX8_isDone_90 : decode cX8_isDone 90 = .ok (.ireturn, 1) := dk_172 (dk_at dksX8_isDone_3 3 rfl rfl)
theorem dX8_isDone_91 : decode cX8_isDone 91 = .ok (.aload_n 0, 1) := dk_42 (dk_at dksX8_isDone_3 4 rfl rfl)
theorem dX8_isDone_92 : decode cX8_isDone 92 = .ok (.aload_n 0, 1) := dk_42 (dk_at dksX8_isDone_3 5 rfl rfl)
theorem dX8_isDone_93 : decode cX8_isDone 93 = .ok (.getfield 71, 3) := dk_180 0 71 (dk_at dksX8_isDone_3 6 rfl rfl)
theorem dX8_isDone_96 : decode cX8_isDone 96 = .ok (.iload_n 1, 1) := dk_27 (dk_at dksX8_isDone_3 9 rfl rfl)
theorem dX8_isDone_97 : decode cX8_isDone 97 = .ok (.iaload, 1) := dk_46 (dk_at dksX8_isDone_3 10 rfl rfl)
theorem dX8_isDone_98 : decode cX8_isDone 98 = .ok (.invokevirtual 462, 3) := dk_182 1 206 (dk_at dksX8_isDone_3 11 rfl rfl)
theorem dX8_isDone_101 : decode cX8_isDone 101 = .ok (.ireturn, 1) := dk_172 (dk_at dksX8_isDone_3 14 rfl rfl)
theorem dX8_isDone_102 : decode cX8_isDone 102 = .ok (.aload_n 0, 1) := dk_42 (dk_at dksX8_isDone_3 15 rfl rfl)
theorem dX8_isDone_103 : decode cX8_isDone 103 = .ok (.aload_n 0, 1) := dk_42 (dk_at dksX8_isDone_3 16 rfl rfl)
theorem dX8_isDone_104 : decode cX8_isDone 104 = .ok (.getfield 71, 3) := dk_180 0 71 (dk_at dksX8_isDone_3 17 rfl rfl)
theorem dX8_isDone_107 : decode cX8_isDone 107 = .ok (.iload_n 1, 1) := dk_27 (dk_at dksX8_isDone_3 20 rfl rfl)
theorem dX8_isDone_108 : decode cX8_isDone 108 = .ok (.iaload, 1) := dk_46 (dk_at dksX8_isDone_3 21 rfl rfl)
theorem dX8_isDone_109 : decode cX8_isDone 109 = .ok (.aload_n 0, 1) := dk_42 (dk_at dksX8_isDone_3 22 rfl rfl)
theorem dX8_isDone_110 : decode cX8_isDone 110 = .ok (.getfield 74, 3) := dk_180 0 74 (dk_at dksX8_isDone_4 0 rfl rfl)
theorem dX8_isDone_113 : decode cX8_isDone 113 = .ok (.iload_n 1, 1) := dk_27 (dk_at dksX8_isDone_4 3 rfl rfl)
theorem dX8_isDone_114 : decode cX8_isDone 114 = .ok (.iaload, 1) := dk_46 (dk_at dksX8_isDone_4 4 rfl rfl)
theorem dX8_isDone_115 : decode cX8_isDone 115 = .ok (.aload_n 0, 1) := dk_42 (dk_at dksX8_isDone_4 5 rfl rfl)
theorem dX8_isDone_116 : decode cX8_isDone 116 = .ok (.getfield 77, 3) := dk_180 0 77 (dk_at dksX8_isDone_4 6 rfl rfl)
theorem dX8_isDone_119 : decode cX8_isDone 119 = .ok (.iload_n 1, 1) := dk_27 (dk_at dksX8_isDone_4 9 rfl rfl)
theorem dX8_isDone_120 : decode cX8_isDone 120 = .ok (.iaload, 1) := dk_46 (dk_at dksX8_isDone_4 10 rfl rfl)
theorem dX8_isDone_121 : decode cX8_isDone 121 = .ok (.invokevirtual 465, 3) := dk_182 1 209 (dk_at dksX8_isDone_4 11 rfl rfl)
theorem dX8_isDone_124 : decode cX8_isDone 124 = .ok (.ifCond .lt 7, 3) := dk_155 0 7 (dk_at dksX8_isDone_4 14 rfl rfl)
theorem dX8_isDone_127 : decode cX8_isDone 127 = .ok (.iconst 1, 1) := dk_4 (dk_at dksX8_isDone_4 17 rfl rfl)
theorem dX8_isDone_128 : decode cX8_isDone 128 = .ok (.goto 4, 3) := dk_167 0 4 (dk_at dksX8_isDone_4 18 rfl rfl)
theorem dX8_isDone_131 : decode cX8_isDone 131 = .ok (.iconst 0, 1) := dk_3 (dk_at dksX8_isDone_4 21 rfl rfl)
theorem dX8_isDone_132 : decode cX8_isDone 132 = .ok (.ireturn, 1) := dk_172 (dk_at dksX8_isDone_4 22 rfl rfl)
theorem dX8_isDone_133 : decode cX8_isDone 133 = .ok (.aload_n 0, 1) := dk_42 (dk_at dksX8_isDone_4 23 rfl rfl)
theorem dX8_isDone_134 : decode cX8_isDone 134 = .ok (.aload_n 0, 1) := dk_42 (dk_at dksX8_isDone_5 0 rfl rfl)
theorem dX8_isDone_135 : decode cX8_isDone 135 = .ok (.getfield 71, 3) := dk_180 0 71 (dk_at dksX8_isDone_5 1 rfl rfl)
theorem dX8_isDone_138 : decode cX8_isDone 138 = .ok (.iload_n 1, 1) := dk_27 (dk_at dksX8_isDone_5 4 rfl rfl)
theorem dX8_isDone_139 : decode cX8_isDone 139 = .ok (.iaload, 1) := dk_46 (dk_at dksX8_isDone_5 5 rfl rfl)
theorem dX8_isDone_140 : decode cX8_isDone 140 = .ok (.aload_n 0, 1) := dk_42 (dk_at dksX8_isDone_5 6 rfl rfl)
theorem dX8_isDone_141 : decode cX8_isDone 141 = .ok (.getfield 74, 3) := dk_180 0 74 (dk_at dksX8_isDone_5 7 rfl rfl)
theorem dX8_isDone_144 : decode cX8_isDone 144 = .ok (.iload_n 1, 1) := dk_27 (dk_at dksX8_isDone_5 10 rfl rfl)
theorem dX8_isDone_145 : decode cX8_isDone 145 = .ok (.iaload, 1) := dk_46 (dk_at dksX8_isDone_5 11 rfl rfl)
theorem dX8_isDone_146 : decode cX8_isDone 146 = .ok (.invokevirtual 468, 3) := dk_182 1 212 (dk_at dksX8_isDone_5 12 rfl rfl)
theorem dX8_isDone_149 : decode cX8_isDone 149 = .ok (.ifCond .lt 7, 3) := dk_155 0 7 (dk_at dksX8_isDone_5 15 rfl rfl)
theorem dX8_isDone_152 : decode cX8_isDone 152 = .ok (.iconst 1, 1) := dk_4 (dk_at dksX8_isDone_5 18 rfl rfl)
theorem dX8_isDone_153 : decode cX8_isDone 153 = .ok (.goto 4, 3) := dk_167 0 4 (dk_at dksX8_isDone_5 19 rfl rfl)
theorem dX8_isDone_156 : decode cX8_isDone 156 = .ok (.iconst 0, 1) := dk_3 (dk_at dksX8_isDone_5 22 rfl rfl)
theorem dX8_isDone_157 : decode cX8_isDone 157 = .ok (.ireturn, 1) := dk_172 (dk_at dksX8_isDone_5 23 rfl rfl)
theorem dX8_isDone_158 : decode cX8_isDone 158 = .ok (.aload_n 0, 1) := dk_42 (dk_at dksX8_isDone_6 0 rfl rfl)
theorem dX8_isDone_159 : decode cX8_isDone 159 = .ok (.aload_n 0, 1) := dk_42 (dk_at dksX8_isDone_6 1 rfl rfl)
theorem dX8_isDone_160 : decode cX8_isDone 160 = .ok (.getfield 71, 3) := dk_180 0 71 (dk_at dksX8_isDone_6 2 rfl rfl)
theorem dX8_isDone_163 : decode cX8_isDone 163 = .ok (.iload_n 1, 1) := dk_27 (dk_at dksX8_isDone_6 5 rfl rfl)
theorem dX8_isDone_164 : decode cX8_isDone 164 = .ok (.iaload, 1) := dk_46 (dk_at dksX8_isDone_6 6 rfl rfl)
theorem dX8_isDone_165 : decode cX8_isDone 165 = .ok (.aload_n 0, 1) := dk_42 (dk_at dksX8_isDone_6 7 rfl rfl)
theorem dX8_isDone_166 : decode cX8_isDone 166 = .ok (.getfield 74, 3) := dk_180 0 74 (dk_at dksX8_isDone_6 8 rfl rfl)
theorem dX8_isDone_169 : decode cX8_isDone 169 = .ok (.iload_n 1, 1) := dk_27 (dk_at dksX8_isDone_6 11 rfl rfl)
theorem dX8_isDone_170 : decode cX8_isDone 170 = .ok (.iaload, 1) := dk_46 (dk_at dksX8_isDone_6 12 rfl rfl)
theorem dX8_isDone_171 : decode cX8_isDone 171 = .ok (.aload_n 0, 1) := dk_42 (dk_at dksX8_isDone_6 13 rfl rfl)
theorem dX8_isDone_172 : decode cX8_isDone 172 = .ok (.getfield 68, 3) := dk_180 0 68 (dk_at dksX8_isDone_6 14 rfl rfl)
theorem dX8_isDone_175 : decode cX8_isDone 175 = .ok (.iload_n 1, 1) := dk_27 (dk_at dksX8_isDone_6 17 rfl rfl)
theorem dX8_isDone_176 : decode cX8_isDone 176 = .ok (.iaload, 1) := dk_46 (dk_at dksX8_isDone_6 18 rfl rfl)
theorem dX8_isDone_177 : decode cX8_isDone 177 = .ok (.bipush 120, 2) := dk_16 120 (dk_at dksX8_isDone_6 19 rfl rfl)
theorem dX8_isDone_179 : decode cX8_isDone 179 = .ok (.if_icmp .ne 7, 3) := dk_160 0 7 (dk_at dksX8_isDone_6 21 rfl rfl)
theorem dX8_isDone_182 : decode cX8_isDone 182 = .ok (.iconst 1, 1) := dk_4 (dk_at dksX8_isDone_7 0 rfl rfl)
theorem dX8_isDone_183 : decode cX8_isDone 183 = .ok (.goto 4, 3) := dk_167 0 4 (dk_at dksX8_isDone_7 1 rfl rfl)
theorem dX8_isDone_186 : decode cX8_isDone 186 = .ok (.iconst 0, 1) := dk_3 (dk_at dksX8_isDone_7 4 rfl rfl)
theorem dX8_isDone_187 : decode cX8_isDone 187 = .ok (.invokevirtual 471, 3) := dk_182 1 215 (dk_at dksX8_isDone_7 5 rfl rfl)
theorem dX8_isDone_190 : decode cX8_isDone 190 = .ok (.ireturn, 1) := dk_172 (dk_at dksX8_isDone_7 8 rfl rfl)
abbrev cX8_leaderNow : ByteArray := prog_18_method_117_code
def yX8_leaderNow : MethodName := ⟨RX8, "leaderNow", "()I"⟩
theorem dX8_leaderNow_0 : decode cX8_leaderNow 0 = .ok (.aload_n 0, 1) := by decide +kernel
theorem dX8_leaderNow_1 : decode cX8_leaderNow 1 = .ok (.invokevirtual 481, 3) := by decide +kernel
theorem dX8_leaderNow_4 : decode cX8_leaderNow 4 = .ok (.ireturn, 1) := by decide +kernel
abbrev cX8_leading : ByteArray := prog_18_method_116_code
def yX8_leading : MethodName := ⟨RX8, "leading", "()I"⟩
def dkwX8_leading_2 : List UInt8 := [167, 255, 216, 27, 172]
abbrev dktX8_leading_2 : List UInt8 := dkwX8_leading_2 ++ []
def dkwX8_leading_1 : List UInt8 := [159, 0, 18, 42, 28, 4, 182, 0, 101, 42, 27, 4, 182, 0, 101, 164, 0, 5, 28, 60, 132, 2, 1]
abbrev dktX8_leading_1 : List UInt8 := dkwX8_leading_1 ++ dktX8_leading_2
def dkwX8_leading_0 : List UInt8 := [16, 254, 60, 3, 61, 28, 16, 7, 162, 0, 40, 42, 28, 182, 1, 158, 153, 0, 26, 27, 16, 254]
abbrev dktX8_leading_0 : List UInt8 := dkwX8_leading_0 ++ dktX8_leading_1
theorem dksX8_leading_0 : cX8_leading.data.toList.drop 0 = dktX8_leading_0 := by decide +kernel
theorem dksX8_leading_1 : cX8_leading.data.toList.drop 22 = dktX8_leading_1 := dk_seg dksX8_leading_0 22 rfl rfl
theorem dksX8_leading_2 : cX8_leading.data.toList.drop 45 = dktX8_leading_2 := dk_seg dksX8_leading_1 23 rfl rfl
theorem dX8_leading_0 : decode cX8_leading 0 = .ok (.bipush (-2), 2) := dk_16 254 (dk_at dksX8_leading_0 0 rfl rfl)
theorem dX8_leading_2 : decode cX8_leading 2 = .ok (.istore_n 1, 1) := dk_60 (dk_at dksX8_leading_0 2 rfl rfl)
theorem dX8_leading_3 : decode cX8_leading 3 = .ok (.iconst 0, 1) := dk_3 (dk_at dksX8_leading_0 3 rfl rfl)
theorem dX8_leading_4 : decode cX8_leading 4 = .ok (.istore_n 2, 1) := dk_61 (dk_at dksX8_leading_0 4 rfl rfl)
theorem dX8_leading_5 : decode cX8_leading 5 = .ok (.iload_n 2, 1) := dk_28 (dk_at dksX8_leading_0 5 rfl rfl)
theorem dX8_leading_6 : decode cX8_leading 6 = .ok (.bipush 7, 2) := dk_16 7 (dk_at dksX8_leading_0 6 rfl rfl)
theorem dX8_leading_8 : decode cX8_leading 8 = .ok (.if_icmp .ge 40, 3) := dk_162 0 40 (dk_at dksX8_leading_0 8 rfl rfl)
theorem dX8_leading_11 : decode cX8_leading 11 = .ok (.aload_n 0, 1) := dk_42 (dk_at dksX8_leading_0 11 rfl rfl)
theorem dX8_leading_12 : decode cX8_leading 12 = .ok (.iload_n 2, 1) := dk_28 (dk_at dksX8_leading_0 12 rfl rfl)
theorem dX8_leading_13 : decode cX8_leading 13 = .ok (.invokevirtual 414, 3) := dk_182 1 158 (dk_at dksX8_leading_0 13 rfl rfl)
theorem dX8_leading_16 : decode cX8_leading 16 = .ok (.ifCond .eq 26, 3) := dk_153 0 26 (dk_at dksX8_leading_0 16 rfl rfl)
theorem dX8_leading_19 : decode cX8_leading 19 = .ok (.iload_n 1, 1) := dk_27 (dk_at dksX8_leading_0 19 rfl rfl)
theorem dX8_leading_20 : decode cX8_leading 20 = .ok (.bipush (-2), 2) := dk_16 254 (dk_at dksX8_leading_0 20 rfl rfl)
theorem dX8_leading_22 : decode cX8_leading 22 = .ok (.if_icmp .eq 18, 3) := dk_159 0 18 (dk_at dksX8_leading_1 0 rfl rfl)
theorem dX8_leading_25 : decode cX8_leading 25 = .ok (.aload_n 0, 1) := dk_42 (dk_at dksX8_leading_1 3 rfl rfl)
theorem dX8_leading_26 : decode cX8_leading 26 = .ok (.iload_n 2, 1) := dk_28 (dk_at dksX8_leading_1 4 rfl rfl)
theorem dX8_leading_27 : decode cX8_leading 27 = .ok (.iconst 1, 1) := dk_4 (dk_at dksX8_leading_1 5 rfl rfl)
theorem dX8_leading_28 : decode cX8_leading 28 = .ok (.invokevirtual 101, 3) := dk_182 0 101 (dk_at dksX8_leading_1 6 rfl rfl)
theorem dX8_leading_31 : decode cX8_leading 31 = .ok (.aload_n 0, 1) := dk_42 (dk_at dksX8_leading_1 9 rfl rfl)
theorem dX8_leading_32 : decode cX8_leading 32 = .ok (.iload_n 1, 1) := dk_27 (dk_at dksX8_leading_1 10 rfl rfl)
theorem dX8_leading_33 : decode cX8_leading 33 = .ok (.iconst 1, 1) := dk_4 (dk_at dksX8_leading_1 11 rfl rfl)
theorem dX8_leading_34 : decode cX8_leading 34 = .ok (.invokevirtual 101, 3) := dk_182 0 101 (dk_at dksX8_leading_1 12 rfl rfl)
theorem dX8_leading_37 : decode cX8_leading 37 = .ok (.if_icmp .le 5, 3) := dk_164 0 5 (dk_at dksX8_leading_1 15 rfl rfl)
theorem dX8_leading_40 : decode cX8_leading 40 = .ok (.iload_n 2, 1) := dk_28 (dk_at dksX8_leading_1 18 rfl rfl)
theorem dX8_leading_41 : decode cX8_leading 41 = .ok (.istore_n 1, 1) := dk_60 (dk_at dksX8_leading_1 19 rfl rfl)
theorem dX8_leading_42 : decode cX8_leading 42 = .ok (.iinc 2 1, 3) := dk_132 2 1 (dk_at dksX8_leading_1 20 rfl rfl)
theorem dX8_leading_45 : decode cX8_leading 45 = .ok (.goto (-40), 3) := dk_167 255 216 (dk_at dksX8_leading_2 0 rfl rfl)
theorem dX8_leading_48 : decode cX8_leading 48 = .ok (.iload_n 1, 1) := dk_27 (dk_at dksX8_leading_2 3 rfl rfl)
theorem dX8_leading_49 : decode cX8_leading 49 = .ok (.ireturn, 1) := dk_172 (dk_at dksX8_leading_2 4 rfl rfl)
abbrev cX8_tried : ByteArray := prog_18_method_118_code
def yX8_tried : MethodName := ⟨RX8, "tried", "(II)I"⟩
def dkwX8_tried_8 : List UInt8 := [184, 1, 228, 29, 172]
abbrev dktX8_tried_8 : List UInt8 := dkwX8_tried_8 ++ []
def dkwX8_tried_7 : List UInt8 := [182, 0, 101, 167, 0, 12, 42, 28, 16, 30, 100, 6, 182, 0, 101, 62, 42, 180, 0, 13, 42, 180, 0, 7]
abbrev dktX8_tried_7 : List UInt8 := dkwX8_tried_7 ++ dktX8_tried_8
def dkwX8_tried_6 : List UInt8 := [16, 10, 100, 16, 9, 182, 0, 101, 167, 0, 30, 28, 16, 30, 162, 0, 15, 42, 28, 16, 20, 100, 4]
abbrev dktX8_tried_6 : List UInt8 := dkwX8_tried_6 ++ dktX8_tried_7
def dkwX8_tried_5 : List UInt8 := [62, 167, 0, 62, 42, 180, 0, 7, 17, 43, 128, 46, 62, 167, 0, 50, 28, 16, 20, 162, 0, 16, 42, 28]
abbrev dktX8_tried_5 : List UInt8 := dkwX8_tried_5 ++ dktX8_tried_6
def dkwX8_tried_4 : List UInt8 := [42, 180, 1, 64, 62, 167, 0, 82, 42, 182, 1, 225, 62, 167, 0, 74, 42, 180, 0, 7, 17, 43, 125, 46]
abbrev dktX8_tried_4 : List UInt8 := dkwX8_tried_4 ++ dktX8_tried_5
def dkwX8_tried_3 : List UInt8 := [170, 0, 0, 0, 0, 0, 71, 0, 0, 0, 0, 0, 0, 0, 3, 0, 0, 0, 31, 0, 0, 0, 39, 0, 0, 0, 47, 0, 0, 0, 59]
abbrev dktX8_tried_3 : List UInt8 := dkwX8_tried_3 ++ dktX8_tried_4
def dkwX8_tried_2 : List UInt8 := [154, 0, 5, 2, 172, 42, 180, 0, 7, 42, 180, 0, 13, 184, 1, 228, 42, 27, 182, 1, 155, 28]
abbrev dktX8_tried_2 : List UInt8 := dkwX8_tried_2 ++ dktX8_tried_3
def dkwX8_tried_1 : List UInt8 := [184, 0, 97, 154, 0, 25, 28, 16, 20, 100, 184, 0, 97, 154, 0, 15, 28, 16, 30, 100, 184, 0, 97]
abbrev dktX8_tried_1 : List UInt8 := dkwX8_tried_1 ++ dktX8_tried_2
def dkwX8_tried_0 : List UInt8 := [27, 4, 17, 0, 200, 184, 0, 93, 153, 0, 42, 28, 3, 6, 184, 0, 93, 154, 0, 35, 28, 16, 10, 100]
abbrev dktX8_tried_0 : List UInt8 := dkwX8_tried_0 ++ dktX8_tried_1
theorem dksX8_tried_0 : cX8_tried.data.toList.drop 0 = dktX8_tried_0 := by decide +kernel
theorem dksX8_tried_1 : cX8_tried.data.toList.drop 24 = dktX8_tried_1 := dk_seg dksX8_tried_0 24 rfl rfl
theorem dksX8_tried_2 : cX8_tried.data.toList.drop 47 = dktX8_tried_2 := dk_seg dksX8_tried_1 23 rfl rfl
theorem dksX8_tried_3 : cX8_tried.data.toList.drop 69 = dktX8_tried_3 := dk_seg dksX8_tried_2 22 rfl rfl
theorem dksX8_tried_4 : cX8_tried.data.toList.drop 100 = dktX8_tried_4 := dk_seg dksX8_tried_3 31 rfl rfl
theorem dksX8_tried_5 : cX8_tried.data.toList.drop 124 = dktX8_tried_5 := dk_seg dksX8_tried_4 24 rfl rfl
theorem dksX8_tried_6 : cX8_tried.data.toList.drop 148 = dktX8_tried_6 := dk_seg dksX8_tried_5 24 rfl rfl
theorem dksX8_tried_7 : cX8_tried.data.toList.drop 171 = dktX8_tried_7 := dk_seg dksX8_tried_6 23 rfl rfl
theorem dksX8_tried_8 : cX8_tried.data.toList.drop 195 = dktX8_tried_8 := dk_seg dksX8_tried_7 24 rfl rfl
theorem dX8_tried_0 : decode cX8_tried 0 = .ok (.iload_n 1, 1) := dk_27 (dk_at dksX8_tried_0 0 rfl rfl)
theorem dX8_tried_1 : decode cX8_tried 1 = .ok (.iconst 1, 1) := dk_4 (dk_at dksX8_tried_0 1 rfl rfl)
theorem dX8_tried_2 : decode cX8_tried 2 = .ok (.sipush 200, 3) := dk_17 0 200 (dk_at dksX8_tried_0 2 rfl rfl)
theorem dX8_tried_5 : decode cX8_tried 5 = .ok (.invokestatic 93, 3) := dk_184 0 93 (dk_at dksX8_tried_0 5 rfl rfl)
theorem dX8_tried_8 : decode cX8_tried 8 = .ok (.ifCond .eq 42, 3) := dk_153 0 42 (dk_at dksX8_tried_0 8 rfl rfl)
theorem dX8_tried_11 : decode cX8_tried 11 = .ok (.iload_n 2, 1) := dk_28 (dk_at dksX8_tried_0 11 rfl rfl)
theorem dX8_tried_12 : decode cX8_tried 12 = .ok (.iconst 0, 1) := dk_3 (dk_at dksX8_tried_0 12 rfl rfl)
theorem dX8_tried_13 : decode cX8_tried 13 = .ok (.iconst 3, 1) := dk_6 (dk_at dksX8_tried_0 13 rfl rfl)
theorem dX8_tried_14 : decode cX8_tried 14 = .ok (.invokestatic 93, 3) := dk_184 0 93 (dk_at dksX8_tried_0 14 rfl rfl)
theorem dX8_tried_17 : decode cX8_tried 17 = .ok (.ifCond .ne 35, 3) := dk_154 0 35 (dk_at dksX8_tried_0 17 rfl rfl)
theorem dX8_tried_20 : decode cX8_tried 20 = .ok (.iload_n 2, 1) := dk_28 (dk_at dksX8_tried_0 20 rfl rfl)
theorem dX8_tried_21 : decode cX8_tried 21 = .ok (.bipush 10, 2) := dk_16 10 (dk_at dksX8_tried_0 21 rfl rfl)
theorem dX8_tried_23 : decode cX8_tried 23 = .ok (.isub, 1) := dk_100 (dk_at dksX8_tried_0 23 rfl rfl)
theorem dX8_tried_24 : decode cX8_tried 24 = .ok (.invokestatic 97, 3) := dk_184 0 97 (dk_at dksX8_tried_1 0 rfl rfl)
theorem dX8_tried_27 : decode cX8_tried 27 = .ok (.ifCond .ne 25, 3) := dk_154 0 25 (dk_at dksX8_tried_1 3 rfl rfl)
theorem dX8_tried_30 : decode cX8_tried 30 = .ok (.iload_n 2, 1) := dk_28 (dk_at dksX8_tried_1 6 rfl rfl)
theorem dX8_tried_31 : decode cX8_tried 31 = .ok (.bipush 20, 2) := dk_16 20 (dk_at dksX8_tried_1 7 rfl rfl)
theorem dX8_tried_33 : decode cX8_tried 33 = .ok (.isub, 1) := dk_100 (dk_at dksX8_tried_1 9 rfl rfl)
theorem dX8_tried_34 : decode cX8_tried 34 = .ok (.invokestatic 97, 3) := dk_184 0 97 (dk_at dksX8_tried_1 10 rfl rfl)
theorem dX8_tried_37 : decode cX8_tried 37 = .ok (.ifCond .ne 15, 3) := dk_154 0 15 (dk_at dksX8_tried_1 13 rfl rfl)
theorem dX8_tried_40 : decode cX8_tried 40 = .ok (.iload_n 2, 1) := dk_28 (dk_at dksX8_tried_1 16 rfl rfl)
theorem dX8_tried_41 : decode cX8_tried 41 = .ok (.bipush 30, 2) := dk_16 30 (dk_at dksX8_tried_1 17 rfl rfl)
theorem dX8_tried_43 : decode cX8_tried 43 = .ok (.isub, 1) := dk_100 (dk_at dksX8_tried_1 19 rfl rfl)
theorem dX8_tried_44 : decode cX8_tried 44 = .ok (.invokestatic 97, 3) := dk_184 0 97 (dk_at dksX8_tried_1 20 rfl rfl)
theorem dX8_tried_47 : decode cX8_tried 47 = .ok (.ifCond .ne 5, 3) := dk_154 0 5 (dk_at dksX8_tried_2 0 rfl rfl)
theorem dX8_tried_50 : decode cX8_tried 50 = .ok (.iconst (-1), 1) := dk_2 (dk_at dksX8_tried_2 3 rfl rfl)
theorem dX8_tried_51 : decode cX8_tried 51 = .ok (.ireturn, 1) := dk_172 (dk_at dksX8_tried_2 4 rfl rfl)
theorem dX8_tried_52 : decode cX8_tried 52 = .ok (.aload_n 0, 1) := dk_42 (dk_at dksX8_tried_2 5 rfl rfl)
theorem dX8_tried_53 : decode cX8_tried 53 = .ok (.getfield 7, 3) := dk_180 0 7 (dk_at dksX8_tried_2 6 rfl rfl)
theorem dX8_tried_56 : decode cX8_tried 56 = .ok (.aload_n 0, 1) := dk_42 (dk_at dksX8_tried_2 9 rfl rfl)
theorem dX8_tried_57 : decode cX8_tried 57 = .ok (.getfield 13, 3) := dk_180 0 13 (dk_at dksX8_tried_2 10 rfl rfl)
theorem dX8_tried_60 : decode cX8_tried 60 = .ok (.invokestatic 484, 3) := dk_184 1 228 (dk_at dksX8_tried_2 13 rfl rfl)
theorem dX8_tried_63 : decode cX8_tried 63 = .ok (.aload_n 0, 1) := dk_42 (dk_at dksX8_tried_2 16 rfl rfl)
theorem dX8_tried_64 : decode cX8_tried 64 = .ok (.iload_n 1, 1) := dk_27 (dk_at dksX8_tried_2 17 rfl rfl)
theorem dX8_tried_65 : decode cX8_tried 65 = .ok (.invokevirtual 411, 3) := dk_182 1 155 (dk_at dksX8_tried_2 18 rfl rfl)
theorem dX8_tried_68 : decode cX8_tried 68 = .ok (.iload_n 2, 1) := dk_28 (dk_at dksX8_tried_2 21 rfl rfl)
theorem dX8_tried_69 : decode cX8_tried 69 = .ok (.tableswitch 71 0 3 #[31, 39, 47, 59], 31) := by decide +kernel
theorem dX8_tried_100 : decode cX8_tried 100 = .ok (.aload_n 0, 1) := dk_42 (dk_at dksX8_tried_4 0 rfl rfl)
theorem dX8_tried_101 : decode cX8_tried 101 = .ok (.getfield 320, 3) := dk_180 1 64 (dk_at dksX8_tried_4 1 rfl rfl)
theorem dX8_tried_104 : decode cX8_tried 104 = .ok (.istore_n 3, 1) := dk_62 (dk_at dksX8_tried_4 4 rfl rfl)
theorem dX8_tried_105 : decode cX8_tried 105 = .ok (.goto 82, 3) := dk_167 0 82 (dk_at dksX8_tried_4 5 rfl rfl)
theorem dX8_tried_108 : decode cX8_tried 108 = .ok (.aload_n 0, 1) := dk_42 (dk_at dksX8_tried_4 8 rfl rfl)
theorem dX8_tried_109 : decode cX8_tried 109 = .ok (.invokevirtual 481, 3) := dk_182 1 225 (dk_at dksX8_tried_4 9 rfl rfl)
theorem dX8_tried_112 : decode cX8_tried 112 = .ok (.istore_n 3, 1) := dk_62 (dk_at dksX8_tried_4 12 rfl rfl)
theorem dX8_tried_113 : decode cX8_tried 113 = .ok (.goto 74, 3) := dk_167 0 74 (dk_at dksX8_tried_4 13 rfl rfl)
theorem dX8_tried_116 : decode cX8_tried 116 = .ok (.aload_n 0, 1) := dk_42 (dk_at dksX8_tried_4 16 rfl rfl)
theorem dX8_tried_117 : decode cX8_tried 117 = .ok (.getfield 7, 3) := dk_180 0 7 (dk_at dksX8_tried_4 17 rfl rfl)
theorem dX8_tried_120 : decode cX8_tried 120 = .ok (.sipush 11133, 3) := dk_17 43 125 (dk_at dksX8_tried_4 20 rfl rfl)
theorem dX8_tried_123 : decode cX8_tried 123 = .ok (.iaload, 1) := dk_46 (dk_at dksX8_tried_4 23 rfl rfl)
theorem dX8_tried_124 : decode cX8_tried 124 = .ok (.istore_n 3, 1) := dk_62 (dk_at dksX8_tried_5 0 rfl rfl)
theorem dX8_tried_125 : decode cX8_tried 125 = .ok (.goto 62, 3) := dk_167 0 62 (dk_at dksX8_tried_5 1 rfl rfl)
theorem dX8_tried_128 : decode cX8_tried 128 = .ok (.aload_n 0, 1) := dk_42 (dk_at dksX8_tried_5 4 rfl rfl)
theorem dX8_tried_129 : decode cX8_tried 129 = .ok (.getfield 7, 3) := dk_180 0 7 (dk_at dksX8_tried_5 5 rfl rfl)
theorem dX8_tried_132 : decode cX8_tried 132 = .ok (.sipush 11136, 3) := dk_17 43 128 (dk_at dksX8_tried_5 8 rfl rfl)
theorem dX8_tried_135 : decode cX8_tried 135 = .ok (.iaload, 1) := dk_46 (dk_at dksX8_tried_5 11 rfl rfl)
theorem dX8_tried_136 : decode cX8_tried 136 = .ok (.istore_n 3, 1) := dk_62 (dk_at dksX8_tried_5 12 rfl rfl)
theorem dX8_tried_137 : decode cX8_tried 137 = .ok (.goto 50, 3) := dk_167 0 50 (dk_at dksX8_tried_5 13 rfl rfl)
theorem dX8_tried_140 : decode cX8_tried 140 = .ok (.iload_n 2, 1) := dk_28 (dk_at dksX8_tried_5 16 rfl rfl)
theorem dX8_tried_141 : decode cX8_tried 141 = .ok (.bipush 20, 2) := dk_16 20 (dk_at dksX8_tried_5 17 rfl rfl)
theorem dX8_tried_143 : decode cX8_tried 143 = .ok (.if_icmp .ge 16, 3) := dk_162 0 16 (dk_at dksX8_tried_5 19 rfl rfl)
theorem dX8_tried_146 : decode cX8_tried 146 = .ok (.aload_n 0, 1) := dk_42 (dk_at dksX8_tried_5 22 rfl rfl)
theorem dX8_tried_147 : decode cX8_tried 147 = .ok (.iload_n 2, 1) := dk_28 (dk_at dksX8_tried_5 23 rfl rfl)
theorem dX8_tried_148 : decode cX8_tried 148 = .ok (.bipush 10, 2) := dk_16 10 (dk_at dksX8_tried_6 0 rfl rfl)
theorem dX8_tried_150 : decode cX8_tried 150 = .ok (.isub, 1) := dk_100 (dk_at dksX8_tried_6 2 rfl rfl)
theorem dX8_tried_151 : decode cX8_tried 151 = .ok (.bipush 9, 2) := dk_16 9 (dk_at dksX8_tried_6 3 rfl rfl)
theorem dX8_tried_153 : decode cX8_tried 153 = .ok (.invokevirtual 101, 3) := dk_182 0 101 (dk_at dksX8_tried_6 5 rfl rfl)
theorem dX8_tried_156 : decode cX8_tried 156 = .ok (.goto 30, 3) := dk_167 0 30 (dk_at dksX8_tried_6 8 rfl rfl)
theorem dX8_tried_159 : decode cX8_tried 159 = .ok (.iload_n 2, 1) := dk_28 (dk_at dksX8_tried_6 11 rfl rfl)
theorem dX8_tried_160 : decode cX8_tried 160 = .ok (.bipush 30, 2) := dk_16 30 (dk_at dksX8_tried_6 12 rfl rfl)
theorem dX8_tried_162 : decode cX8_tried 162 = .ok (.if_icmp .ge 15, 3) := dk_162 0 15 (dk_at dksX8_tried_6 14 rfl rfl)
theorem dX8_tried_165 : decode cX8_tried 165 = .ok (.aload_n 0, 1) := dk_42 (dk_at dksX8_tried_6 17 rfl rfl)
theorem dX8_tried_166 : decode cX8_tried 166 = .ok (.iload_n 2, 1) := dk_28 (dk_at dksX8_tried_6 18 rfl rfl)
theorem dX8_tried_167 : decode cX8_tried 167 = .ok (.bipush 20, 2) := dk_16 20 (dk_at dksX8_tried_6 19 rfl rfl)
theorem dX8_tried_169 : decode cX8_tried 169 = .ok (.isub, 1) := dk_100 (dk_at dksX8_tried_6 21 rfl rfl)
theorem dX8_tried_170 : decode cX8_tried 170 = .ok (.iconst 1, 1) := dk_4 (dk_at dksX8_tried_6 22 rfl rfl)
theorem dX8_tried_171 : decode cX8_tried 171 = .ok (.invokevirtual 101, 3) := dk_182 0 101 (dk_at dksX8_tried_7 0 rfl rfl)
theorem dX8_tried_174 : decode cX8_tried 174 = .ok (.goto 12, 3) := dk_167 0 12 (dk_at dksX8_tried_7 3 rfl rfl)
theorem dX8_tried_177 : decode cX8_tried 177 = .ok (.aload_n 0, 1) := dk_42 (dk_at dksX8_tried_7 6 rfl rfl)
theorem dX8_tried_178 : decode cX8_tried 178 = .ok (.iload_n 2, 1) := dk_28 (dk_at dksX8_tried_7 7 rfl rfl)
theorem dX8_tried_179 : decode cX8_tried 179 = .ok (.bipush 30, 2) := dk_16 30 (dk_at dksX8_tried_7 8 rfl rfl)
theorem dX8_tried_181 : decode cX8_tried 181 = .ok (.isub, 1) := dk_100 (dk_at dksX8_tried_7 10 rfl rfl)
theorem dX8_tried_182 : decode cX8_tried 182 = .ok (.iconst 3, 1) := dk_6 (dk_at dksX8_tried_7 11 rfl rfl)
theorem dX8_tried_183 : decode cX8_tried 183 = .ok (.invokevirtual 101, 3) := dk_182 0 101 (dk_at dksX8_tried_7 12 rfl rfl)
theorem dX8_tried_186 : decode cX8_tried 186 = .ok (.istore_n 3, 1) := dk_62 (dk_at dksX8_tried_7 15 rfl rfl)
theorem dX8_tried_187 : decode cX8_tried 187 = .ok (.aload_n 0, 1) := dk_42 (dk_at dksX8_tried_7 16 rfl rfl)
theorem dX8_tried_188 : decode cX8_tried 188 = .ok (.getfield 13, 3) := dk_180 0 13 (dk_at dksX8_tried_7 17 rfl rfl)
theorem dX8_tried_191 : decode cX8_tried 191 = .ok (.aload_n 0, 1) := dk_42 (dk_at dksX8_tried_7 20 rfl rfl)
theorem dX8_tried_192 : decode cX8_tried 192 = .ok (.getfield 7, 3) := dk_180 0 7 (dk_at dksX8_tried_7 21 rfl rfl)
theorem dX8_tried_195 : decode cX8_tried 195 = .ok (.invokestatic 484, 3) := dk_184 1 228 (dk_at dksX8_tried_8 0 rfl rfl)
theorem dX8_tried_198 : decode cX8_tried 198 = .ok (.iload_n 3, 1) := dk_29 (dk_at dksX8_tried_8 3 rfl rfl)
theorem dX8_tried_199 : decode cX8_tried 199 = .ok (.ireturn, 1) := dk_172 (dk_at dksX8_tried_8 4 rfl rfl)
abbrev cX8_copies : ByteArray := prog_18_method_7_code
def yX8_copies : MethodName := ⟨RX8, "copies", "([I[I)V"⟩
def dkwX8_copies_0 : List UInt8 := [3, 61, 28, 17, 43, 130, 162, 0, 15, 43, 28, 42, 28, 46, 79, 132, 2, 1, 167, 255, 240, 177]
abbrev dktX8_copies_0 : List UInt8 := dkwX8_copies_0 ++ []
theorem dksX8_copies_0 : cX8_copies.data.toList.drop 0 = dktX8_copies_0 := by decide +kernel
theorem dX8_copies_0 : decode cX8_copies 0 = .ok (.iconst 0, 1) := dk_3 (dk_at dksX8_copies_0 0 rfl rfl)
theorem dX8_copies_1 : decode cX8_copies 1 = .ok (.istore_n 2, 1) := dk_61 (dk_at dksX8_copies_0 1 rfl rfl)
theorem dX8_copies_2 : decode cX8_copies 2 = .ok (.iload_n 2, 1) := dk_28 (dk_at dksX8_copies_0 2 rfl rfl)
theorem dX8_copies_3 : decode cX8_copies 3 = .ok (.sipush 11138, 3) := dk_17 43 130 (dk_at dksX8_copies_0 3 rfl rfl)
theorem dX8_copies_6 : decode cX8_copies 6 = .ok (.if_icmp .ge 15, 3) := dk_162 0 15 (dk_at dksX8_copies_0 6 rfl rfl)
theorem dX8_copies_9 : decode cX8_copies 9 = .ok (.aload_n 1, 1) := dk_43 (dk_at dksX8_copies_0 9 rfl rfl)
theorem dX8_copies_10 : decode cX8_copies 10 = .ok (.iload_n 2, 1) := dk_28 (dk_at dksX8_copies_0 10 rfl rfl)
theorem dX8_copies_11 : decode cX8_copies 11 = .ok (.aload_n 0, 1) := dk_42 (dk_at dksX8_copies_0 11 rfl rfl)
theorem dX8_copies_12 : decode cX8_copies 12 = .ok (.iload_n 2, 1) := dk_28 (dk_at dksX8_copies_0 12 rfl rfl)
theorem dX8_copies_13 : decode cX8_copies 13 = .ok (.iaload, 1) := dk_46 (dk_at dksX8_copies_0 13 rfl rfl)
theorem dX8_copies_14 : decode cX8_copies 14 = .ok (.iastore, 1) := dk_79 (dk_at dksX8_copies_0 14 rfl rfl)
theorem dX8_copies_15 : decode cX8_copies 15 = .ok (.iinc 2 1, 3) := dk_132 2 1 (dk_at dksX8_copies_0 15 rfl rfl)
theorem dX8_copies_18 : decode cX8_copies 18 = .ok (.goto (-16), 3) := dk_167 255 240 (dk_at dksX8_copies_0 18 rfl rfl)
theorem dX8_copies_21 : decode cX8_copies 21 = .ok (.return_, 1) := dk_177 (dk_at dksX8_copies_0 21 rfl rfl)
abbrev cX8_nodeIs : ByteArray := prog_18_method_120_code
def yX8_nodeIs : MethodName := ⟨RX8, "nodeIs", "(II)I"⟩
def dkwX8_nodeIs_8 : List UInt8 := [182, 0, 101, 172, 42, 27, 42, 27, 182, 0, 108, 182, 0, 137, 172]
abbrev dktX8_nodeIs_8 : List UInt8 := dkwX8_nodeIs_8 ++ []
def dkwX8_nodeIs_7 : List UInt8 := [42, 27, 16, 11, 182, 0, 101, 184, 1, 232, 172, 42, 27, 16, 12, 182, 0, 101, 172, 42, 27, 16, 13]
abbrev dktX8_nodeIs_7 : List UInt8 := dkwX8_nodeIs_7 ++ dktX8_nodeIs_8
def dkwX8_nodeIs_6 : List UInt8 := [182, 0, 101, 172, 42, 27, 16, 10, 182, 0, 101, 172, 42, 27, 182, 0, 121, 172, 42, 27, 182, 0, 124, 172]
abbrev dktX8_nodeIs_6 : List UInt8 := dkwX8_nodeIs_6 ++ dktX8_nodeIs_7
def dkwX8_nodeIs_5 : List UInt8 := [42, 27, 6, 182, 0, 101, 172, 42, 27, 182, 0, 108, 172, 42, 27, 16, 9, 182, 0, 101, 172, 42, 27, 7]
abbrev dktX8_nodeIs_5 : List UInt8 := dkwX8_nodeIs_5 ++ dktX8_nodeIs_6
def dkwX8_nodeIs_4 : List UInt8 := [42, 27, 3, 182, 0, 101, 172, 42, 27, 4, 182, 0, 101, 172, 42, 27, 5, 182, 0, 101, 184, 1, 232, 172]
abbrev dktX8_nodeIs_4 : List UInt8 := dkwX8_nodeIs_4 ++ dktX8_nodeIs_5
def dkwX8_nodeIs_3 : List UInt8 := [170, 0, 0, 0, 0, 0, 0, 167, 0, 0, 0, 0, 0, 0, 0, 12, 0, 0, 0, 68, 0, 0, 0, 75, 0, 0, 0, 82, 0, 0, 0, 92, 0, 0, 0, 99, 0, 0, 0, 105, 0, 0, 0, 113, 0, 0, 0, 120, 0, 0, 0, 128, 0, 0, 0, 134, 0, 0, 0, 140, 0, 0, 0, 151, 0, 0, 0, 159]
abbrev dktX8_nodeIs_3 : List UInt8 := dkwX8_nodeIs_3 ++ dktX8_nodeIs_4
def dkwX8_nodeIs_2 : List UInt8 := [167, 0, 4, 3, 62, 29, 153, 0, 14, 42, 27, 182, 0, 105, 154, 0, 6, 16, 254, 172, 28]
abbrev dktX8_nodeIs_2 : List UInt8 := dkwX8_nodeIs_2 ++ dktX8_nodeIs_3
def dkwX8_nodeIs_1 : List UInt8 := [28, 8, 159, 0, 20, 28, 16, 7, 159, 0, 14, 28, 16, 10, 16, 12, 184, 0, 93, 153, 0, 7, 4]
abbrev dktX8_nodeIs_1 : List UInt8 := dkwX8_nodeIs_1 ++ dktX8_nodeIs_2
def dkwX8_nodeIs_0 : List UInt8 := [27, 184, 0, 97, 153, 0, 13, 28, 3, 16, 13, 184, 0, 93, 154, 0, 5, 2, 172, 28, 6, 159, 0, 25]
abbrev dktX8_nodeIs_0 : List UInt8 := dkwX8_nodeIs_0 ++ dktX8_nodeIs_1
theorem dksX8_nodeIs_0 : cX8_nodeIs.data.toList.drop 0 = dktX8_nodeIs_0 := by decide +kernel
theorem dksX8_nodeIs_1 : cX8_nodeIs.data.toList.drop 24 = dktX8_nodeIs_1 := dk_seg dksX8_nodeIs_0 24 rfl rfl
theorem dksX8_nodeIs_2 : cX8_nodeIs.data.toList.drop 47 = dktX8_nodeIs_2 := dk_seg dksX8_nodeIs_1 23 rfl rfl
theorem dksX8_nodeIs_3 : cX8_nodeIs.data.toList.drop 68 = dktX8_nodeIs_3 := dk_seg dksX8_nodeIs_2 21 rfl rfl
theorem dksX8_nodeIs_4 : cX8_nodeIs.data.toList.drop 136 = dktX8_nodeIs_4 := dk_seg dksX8_nodeIs_3 68 rfl rfl
theorem dksX8_nodeIs_5 : cX8_nodeIs.data.toList.drop 160 = dktX8_nodeIs_5 := dk_seg dksX8_nodeIs_4 24 rfl rfl
theorem dksX8_nodeIs_6 : cX8_nodeIs.data.toList.drop 184 = dktX8_nodeIs_6 := dk_seg dksX8_nodeIs_5 24 rfl rfl
theorem dksX8_nodeIs_7 : cX8_nodeIs.data.toList.drop 208 = dktX8_nodeIs_7 := dk_seg dksX8_nodeIs_6 24 rfl rfl
theorem dksX8_nodeIs_8 : cX8_nodeIs.data.toList.drop 231 = dktX8_nodeIs_8 := dk_seg dksX8_nodeIs_7 23 rfl rfl
theorem dX8_nodeIs_0 : decode cX8_nodeIs 0 = .ok (.iload_n 1, 1) := dk_27 (dk_at dksX8_nodeIs_0 0 rfl rfl)
theorem dX8_nodeIs_1 : decode cX8_nodeIs 1 = .ok (.invokestatic 97, 3) := dk_184 0 97 (dk_at dksX8_nodeIs_0 1 rfl rfl)
theorem dX8_nodeIs_4 : decode cX8_nodeIs 4 = .ok (.ifCond .eq 13, 3) := dk_153 0 13 (dk_at dksX8_nodeIs_0 4 rfl rfl)
theorem dX8_nodeIs_7 : decode cX8_nodeIs 7 = .ok (.iload_n 2, 1) := dk_28 (dk_at dksX8_nodeIs_0 7 rfl rfl)
theorem dX8_nodeIs_8 : decode cX8_nodeIs 8 = .ok (.iconst 0, 1) := dk_3 (dk_at dksX8_nodeIs_0 8 rfl rfl)
theorem dX8_nodeIs_9 : decode cX8_nodeIs 9 = .ok (.bipush 13, 2) := dk_16 13 (dk_at dksX8_nodeIs_0 9 rfl rfl)
theorem dX8_nodeIs_11 : decode cX8_nodeIs 11 = .ok (.invokestatic 93, 3) := dk_184 0 93 (dk_at dksX8_nodeIs_0 11 rfl rfl)
theorem dX8_nodeIs_14 : decode cX8_nodeIs 14 = .ok (.ifCond .ne 5, 3) := dk_154 0 5 (dk_at dksX8_nodeIs_0 14 rfl rfl)
theorem dX8_nodeIs_17 : decode cX8_nodeIs 17 = .ok (.iconst (-1), 1) := dk_2 (dk_at dksX8_nodeIs_0 17 rfl rfl)
theorem dX8_nodeIs_18 : decode cX8_nodeIs 18 = .ok (.ireturn, 1) := dk_172 (dk_at dksX8_nodeIs_0 18 rfl rfl)
theorem dX8_nodeIs_19 : decode cX8_nodeIs 19 = .ok (.iload_n 2, 1) := dk_28 (dk_at dksX8_nodeIs_0 19 rfl rfl)
theorem dX8_nodeIs_20 : decode cX8_nodeIs 20 = .ok (.iconst 3, 1) := dk_6 (dk_at dksX8_nodeIs_0 20 rfl rfl)
theorem dX8_nodeIs_21 : decode cX8_nodeIs 21 = .ok (.if_icmp .eq 25, 3) := dk_159 0 25 (dk_at dksX8_nodeIs_0 21 rfl rfl)
theorem dX8_nodeIs_24 : decode cX8_nodeIs 24 = .ok (.iload_n 2, 1) := dk_28 (dk_at dksX8_nodeIs_1 0 rfl rfl)
theorem dX8_nodeIs_25 : decode cX8_nodeIs 25 = .ok (.iconst 5, 1) := dk_8 (dk_at dksX8_nodeIs_1 1 rfl rfl)
theorem dX8_nodeIs_26 : decode cX8_nodeIs 26 = .ok (.if_icmp .eq 20, 3) := dk_159 0 20 (dk_at dksX8_nodeIs_1 2 rfl rfl)
theorem dX8_nodeIs_29 : decode cX8_nodeIs 29 = .ok (.iload_n 2, 1) := dk_28 (dk_at dksX8_nodeIs_1 5 rfl rfl)
theorem dX8_nodeIs_30 : decode cX8_nodeIs 30 = .ok (.bipush 7, 2) := dk_16 7 (dk_at dksX8_nodeIs_1 6 rfl rfl)
theorem dX8_nodeIs_32 : decode cX8_nodeIs 32 = .ok (.if_icmp .eq 14, 3) := dk_159 0 14 (dk_at dksX8_nodeIs_1 8 rfl rfl)
theorem dX8_nodeIs_35 : decode cX8_nodeIs 35 = .ok (.iload_n 2, 1) := dk_28 (dk_at dksX8_nodeIs_1 11 rfl rfl)
theorem dX8_nodeIs_36 : decode cX8_nodeIs 36 = .ok (.bipush 10, 2) := dk_16 10 (dk_at dksX8_nodeIs_1 12 rfl rfl)
theorem dX8_nodeIs_38 : decode cX8_nodeIs 38 = .ok (.bipush 12, 2) := dk_16 12 (dk_at dksX8_nodeIs_1 14 rfl rfl)
theorem dX8_nodeIs_40 : decode cX8_nodeIs 40 = .ok (.invokestatic 93, 3) := dk_184 0 93 (dk_at dksX8_nodeIs_1 16 rfl rfl)
theorem dX8_nodeIs_43 : decode cX8_nodeIs 43 = .ok (.ifCond .eq 7, 3) := dk_153 0 7 (dk_at dksX8_nodeIs_1 19 rfl rfl)
theorem dX8_nodeIs_46 : decode cX8_nodeIs 46 = .ok (.iconst 1, 1) := dk_4 (dk_at dksX8_nodeIs_1 22 rfl rfl)
theorem dX8_nodeIs_47 : decode cX8_nodeIs 47 = .ok (.goto 4, 3) := dk_167 0 4 (dk_at dksX8_nodeIs_2 0 rfl rfl)
theorem dX8_nodeIs_50 : decode cX8_nodeIs 50 = .ok (.iconst 0, 1) := dk_3 (dk_at dksX8_nodeIs_2 3 rfl rfl)
theorem dX8_nodeIs_51 : decode cX8_nodeIs 51 = .ok (.istore_n 3, 1) := dk_62 (dk_at dksX8_nodeIs_2 4 rfl rfl)
theorem dX8_nodeIs_52 : decode cX8_nodeIs 52 = .ok (.iload_n 3, 1) := dk_29 (dk_at dksX8_nodeIs_2 5 rfl rfl)
theorem dX8_nodeIs_53 : decode cX8_nodeIs 53 = .ok (.ifCond .eq 14, 3) := dk_153 0 14 (dk_at dksX8_nodeIs_2 6 rfl rfl)
theorem dX8_nodeIs_56 : decode cX8_nodeIs 56 = .ok (.aload_n 0, 1) := dk_42 (dk_at dksX8_nodeIs_2 9 rfl rfl)
theorem dX8_nodeIs_57 : decode cX8_nodeIs 57 = .ok (.iload_n 1, 1) := dk_27 (dk_at dksX8_nodeIs_2 10 rfl rfl)
theorem dX8_nodeIs_58 : decode cX8_nodeIs 58 = .ok (.invokevirtual 105, 3) := dk_182 0 105 (dk_at dksX8_nodeIs_2 11 rfl rfl)
theorem dX8_nodeIs_61 : decode cX8_nodeIs 61 = .ok (.ifCond .ne 6, 3) := dk_154 0 6 (dk_at dksX8_nodeIs_2 14 rfl rfl)
theorem dX8_nodeIs_64 : decode cX8_nodeIs 64 = .ok (.bipush (-2), 2) := dk_16 254 (dk_at dksX8_nodeIs_2 17 rfl rfl)
theorem dX8_nodeIs_66 : decode cX8_nodeIs 66 = .ok (.ireturn, 1) := dk_172 (dk_at dksX8_nodeIs_2 19 rfl rfl)
theorem dX8_nodeIs_67 : decode cX8_nodeIs 67 = .ok (.iload_n 2, 1) := dk_28 (dk_at dksX8_nodeIs_2 20 rfl rfl)
theorem dX8_nodeIs_68 : decode cX8_nodeIs 68 = .ok (.tableswitch 167 0 12 #[68, 75, 82, 92, 99, 105, 113, 120, 128, 134, 140, 151, 159], 68) := by decide +kernel
theorem dX8_nodeIs_136 : decode cX8_nodeIs 136 = .ok (.aload_n 0, 1) := dk_42 (dk_at dksX8_nodeIs_4 0 rfl rfl)
theorem dX8_nodeIs_137 : decode cX8_nodeIs 137 = .ok (.iload_n 1, 1) := dk_27 (dk_at dksX8_nodeIs_4 1 rfl rfl)
theorem dX8_nodeIs_138 : decode cX8_nodeIs 138 = .ok (.iconst 0, 1) := dk_3 (dk_at dksX8_nodeIs_4 2 rfl rfl)
theorem dX8_nodeIs_139 : decode cX8_nodeIs 139 = .ok (.invokevirtual 101, 3) := dk_182 0 101 (dk_at dksX8_nodeIs_4 3 rfl rfl)
theorem dX8_nodeIs_142 : decode cX8_nodeIs 142 = .ok (.ireturn, 1) := dk_172 (dk_at dksX8_nodeIs_4 6 rfl rfl)
theorem dX8_nodeIs_143 : decode cX8_nodeIs 143 = .ok (.aload_n 0, 1) := dk_42 (dk_at dksX8_nodeIs_4 7 rfl rfl)
theorem dX8_nodeIs_144 : decode cX8_nodeIs 144 = .ok (.iload_n 1, 1) := dk_27 (dk_at dksX8_nodeIs_4 8 rfl rfl)
theorem dX8_nodeIs_145 : decode cX8_nodeIs 145 = .ok (.iconst 1, 1) := dk_4 (dk_at dksX8_nodeIs_4 9 rfl rfl)
theorem dX8_nodeIs_146 : decode cX8_nodeIs 146 = .ok (.invokevirtual 101, 3) := dk_182 0 101 (dk_at dksX8_nodeIs_4 10 rfl rfl)
theorem dX8_nodeIs_149 : decode cX8_nodeIs 149 = .ok (.ireturn, 1) := dk_172 (dk_at dksX8_nodeIs_4 13 rfl rfl)
theorem dX8_nodeIs_150 : decode cX8_nodeIs 150 = .ok (.aload_n 0, 1) := dk_42 (dk_at dksX8_nodeIs_4 14 rfl rfl)
theorem dX8_nodeIs_151 : decode cX8_nodeIs 151 = .ok (.iload_n 1, 1) := dk_27 (dk_at dksX8_nodeIs_4 15 rfl rfl)
theorem dX8_nodeIs_152 : decode cX8_nodeIs 152 = .ok (.iconst 2, 1) := dk_5 (dk_at dksX8_nodeIs_4 16 rfl rfl)
theorem dX8_nodeIs_153 : decode cX8_nodeIs 153 = .ok (.invokevirtual 101, 3) := dk_182 0 101 (dk_at dksX8_nodeIs_4 17 rfl rfl)
theorem dX8_nodeIs_156 : decode cX8_nodeIs 156 = .ok (.invokestatic 488, 3) := dk_184 1 232 (dk_at dksX8_nodeIs_4 20 rfl rfl)
theorem dX8_nodeIs_159 : decode cX8_nodeIs 159 = .ok (.ireturn, 1) := dk_172 (dk_at dksX8_nodeIs_4 23 rfl rfl)
theorem dX8_nodeIs_160 : decode cX8_nodeIs 160 = .ok (.aload_n 0, 1) := dk_42 (dk_at dksX8_nodeIs_5 0 rfl rfl)
theorem dX8_nodeIs_161 : decode cX8_nodeIs 161 = .ok (.iload_n 1, 1) := dk_27 (dk_at dksX8_nodeIs_5 1 rfl rfl)
theorem dX8_nodeIs_162 : decode cX8_nodeIs 162 = .ok (.iconst 3, 1) := dk_6 (dk_at dksX8_nodeIs_5 2 rfl rfl)
theorem dX8_nodeIs_163 : decode cX8_nodeIs 163 = .ok (.invokevirtual 101, 3) := dk_182 0 101 (dk_at dksX8_nodeIs_5 3 rfl rfl)
theorem dX8_nodeIs_166 : decode cX8_nodeIs 166 = .ok (.ireturn, 1) := dk_172 (dk_at dksX8_nodeIs_5 6 rfl rfl)
theorem dX8_nodeIs_167 : decode cX8_nodeIs 167 = .ok (.aload_n 0, 1) := dk_42 (dk_at dksX8_nodeIs_5 7 rfl rfl)
theorem dX8_nodeIs_168 : decode cX8_nodeIs 168 = .ok (.iload_n 1, 1) := dk_27 (dk_at dksX8_nodeIs_5 8 rfl rfl)
theorem dX8_nodeIs_169 : decode cX8_nodeIs 169 = .ok (.invokevirtual 108, 3) := dk_182 0 108 (dk_at dksX8_nodeIs_5 9 rfl rfl)
theorem dX8_nodeIs_172 : decode cX8_nodeIs 172 = .ok (.ireturn, 1) := dk_172 (dk_at dksX8_nodeIs_5 12 rfl rfl)
theorem dX8_nodeIs_173 : decode cX8_nodeIs 173 = .ok (.aload_n 0, 1) := dk_42 (dk_at dksX8_nodeIs_5 13 rfl rfl)
theorem dX8_nodeIs_174 : decode cX8_nodeIs 174 = .ok (.iload_n 1, 1) := dk_27 (dk_at dksX8_nodeIs_5 14 rfl rfl)
theorem dX8_nodeIs_175 : decode cX8_nodeIs 175 = .ok (.bipush 9, 2) := dk_16 9 (dk_at dksX8_nodeIs_5 15 rfl rfl)
theorem dX8_nodeIs_177 : decode cX8_nodeIs 177 = .ok (.invokevirtual 101, 3) := dk_182 0 101 (dk_at dksX8_nodeIs_5 17 rfl rfl)
theorem dX8_nodeIs_180 : decode cX8_nodeIs 180 = .ok (.ireturn, 1) := dk_172 (dk_at dksX8_nodeIs_5 20 rfl rfl)
theorem dX8_nodeIs_181 : decode cX8_nodeIs 181 = .ok (.aload_n 0, 1) := dk_42 (dk_at dksX8_nodeIs_5 21 rfl rfl)
theorem dX8_nodeIs_182 : decode cX8_nodeIs 182 = .ok (.iload_n 1, 1) := dk_27 (dk_at dksX8_nodeIs_5 22 rfl rfl)
theorem dX8_nodeIs_183 : decode cX8_nodeIs 183 = .ok (.iconst 4, 1) := dk_7 (dk_at dksX8_nodeIs_5 23 rfl rfl)
theorem dX8_nodeIs_184 : decode cX8_nodeIs 184 = .ok (.invokevirtual 101, 3) := dk_182 0 101 (dk_at dksX8_nodeIs_6 0 rfl rfl)
theorem dX8_nodeIs_187 : decode cX8_nodeIs 187 = .ok (.ireturn, 1) := dk_172 (dk_at dksX8_nodeIs_6 3 rfl rfl)
theorem dX8_nodeIs_188 : decode cX8_nodeIs 188 = .ok (.aload_n 0, 1) := dk_42 (dk_at dksX8_nodeIs_6 4 rfl rfl)
theorem dX8_nodeIs_189 : decode cX8_nodeIs 189 = .ok (.iload_n 1, 1) := dk_27 (dk_at dksX8_nodeIs_6 5 rfl rfl)
theorem dX8_nodeIs_190 : decode cX8_nodeIs 190 = .ok (.bipush 10, 2) := dk_16 10 (dk_at dksX8_nodeIs_6 6 rfl rfl)
theorem dX8_nodeIs_192 : decode cX8_nodeIs 192 = .ok (.invokevirtual 101, 3) := dk_182 0 101 (dk_at dksX8_nodeIs_6 8 rfl rfl)
theorem dX8_nodeIs_195 : decode cX8_nodeIs 195 = .ok (.ireturn, 1) := dk_172 (dk_at dksX8_nodeIs_6 11 rfl rfl)
theorem dX8_nodeIs_196 : decode cX8_nodeIs 196 = .ok (.aload_n 0, 1) := dk_42 (dk_at dksX8_nodeIs_6 12 rfl rfl)
theorem dX8_nodeIs_197 : decode cX8_nodeIs 197 = .ok (.iload_n 1, 1) := dk_27 (dk_at dksX8_nodeIs_6 13 rfl rfl)
theorem dX8_nodeIs_198 : decode cX8_nodeIs 198 = .ok (.invokevirtual 121, 3) := dk_182 0 121 (dk_at dksX8_nodeIs_6 14 rfl rfl)
theorem dX8_nodeIs_201 : decode cX8_nodeIs 201 = .ok (.ireturn, 1) := dk_172 (dk_at dksX8_nodeIs_6 17 rfl rfl)
theorem dX8_nodeIs_202 : decode cX8_nodeIs 202 = .ok (.aload_n 0, 1) := dk_42 (dk_at dksX8_nodeIs_6 18 rfl rfl)
theorem dX8_nodeIs_203 : decode cX8_nodeIs 203 = .ok (.iload_n 1, 1) := dk_27 (dk_at dksX8_nodeIs_6 19 rfl rfl)
theorem dX8_nodeIs_204 : decode cX8_nodeIs 204 = .ok (.invokevirtual 124, 3) := dk_182 0 124 (dk_at dksX8_nodeIs_6 20 rfl rfl)
theorem dX8_nodeIs_207 : decode cX8_nodeIs 207 = .ok (.ireturn, 1) := dk_172 (dk_at dksX8_nodeIs_6 23 rfl rfl)
theorem dX8_nodeIs_208 : decode cX8_nodeIs 208 = .ok (.aload_n 0, 1) := dk_42 (dk_at dksX8_nodeIs_7 0 rfl rfl)
theorem dX8_nodeIs_209 : decode cX8_nodeIs 209 = .ok (.iload_n 1, 1) := dk_27 (dk_at dksX8_nodeIs_7 1 rfl rfl)
theorem dX8_nodeIs_210 : decode cX8_nodeIs 210 = .ok (.bipush 11, 2) := dk_16 11 (dk_at dksX8_nodeIs_7 2 rfl rfl)
theorem dX8_nodeIs_212 : decode cX8_nodeIs 212 = .ok (.invokevirtual 101, 3) := dk_182 0 101 (dk_at dksX8_nodeIs_7 4 rfl rfl)
theorem dX8_nodeIs_215 : decode cX8_nodeIs 215 = .ok (.invokestatic 488, 3) := dk_184 1 232 (dk_at dksX8_nodeIs_7 7 rfl rfl)
theorem dX8_nodeIs_218 : decode cX8_nodeIs 218 = .ok (.ireturn, 1) := dk_172 (dk_at dksX8_nodeIs_7 10 rfl rfl)
theorem dX8_nodeIs_219 : decode cX8_nodeIs 219 = .ok (.aload_n 0, 1) := dk_42 (dk_at dksX8_nodeIs_7 11 rfl rfl)
theorem dX8_nodeIs_220 : decode cX8_nodeIs 220 = .ok (.iload_n 1, 1) := dk_27 (dk_at dksX8_nodeIs_7 12 rfl rfl)
theorem dX8_nodeIs_221 : decode cX8_nodeIs 221 = .ok (.bipush 12, 2) := dk_16 12 (dk_at dksX8_nodeIs_7 13 rfl rfl)
theorem dX8_nodeIs_223 : decode cX8_nodeIs 223 = .ok (.invokevirtual 101, 3) := dk_182 0 101 (dk_at dksX8_nodeIs_7 15 rfl rfl)
theorem dX8_nodeIs_226 : decode cX8_nodeIs 226 = .ok (.ireturn, 1) := dk_172 (dk_at dksX8_nodeIs_7 18 rfl rfl)
theorem dX8_nodeIs_227 : decode cX8_nodeIs 227 = .ok (.aload_n 0, 1) := dk_42 (dk_at dksX8_nodeIs_7 19 rfl rfl)
theorem dX8_nodeIs_228 : decode cX8_nodeIs 228 = .ok (.iload_n 1, 1) := dk_27 (dk_at dksX8_nodeIs_7 20 rfl rfl)
theorem dX8_nodeIs_229 : decode cX8_nodeIs 229 = .ok (.bipush 13, 2) := dk_16 13 (dk_at dksX8_nodeIs_7 21 rfl rfl)
theorem dX8_nodeIs_231 : decode cX8_nodeIs 231 = .ok (.invokevirtual 101, 3) := dk_182 0 101 (dk_at dksX8_nodeIs_8 0 rfl rfl)
theorem dX8_nodeIs_234 : decode cX8_nodeIs 234 = .ok (.ireturn, 1) := dk_172 (dk_at dksX8_nodeIs_8 3 rfl rfl)
theorem dX8_nodeIs_235 : decode cX8_nodeIs 235 = .ok (.aload_n 0, 1) := dk_42 (dk_at dksX8_nodeIs_8 4 rfl rfl)
theorem dX8_nodeIs_236 : decode cX8_nodeIs 236 = .ok (.iload_n 1, 1) := dk_27 (dk_at dksX8_nodeIs_8 5 rfl rfl)
theorem dX8_nodeIs_237 : decode cX8_nodeIs 237 = .ok (.aload_n 0, 1) := dk_42 (dk_at dksX8_nodeIs_8 6 rfl rfl)
theorem dX8_nodeIs_238 : decode cX8_nodeIs 238 = .ok (.iload_n 1, 1) := dk_27 (dk_at dksX8_nodeIs_8 7 rfl rfl)
theorem dX8_nodeIs_239 : decode cX8_nodeIs 239 = .ok (.invokevirtual 108, 3) := dk_182 0 108 (dk_at dksX8_nodeIs_8 8 rfl rfl)
theorem dX8_nodeIs_242 : decode cX8_nodeIs 242 = .ok (.invokevirtual 137, 3) := dk_182 0 137 (dk_at dksX8_nodeIs_8 11 rfl rfl)
theorem dX8_nodeIs_245 : decode cX8_nodeIs 245 = .ok (.ireturn, 1) := dk_172 (dk_at dksX8_nodeIs_8 14 rfl rfl)
abbrev cX8_orNone : ByteArray := prog_18_method_119_code
def yX8_orNone : MethodName := ⟨RX8, "orNone", "(I)I"⟩
def dkwX8_orNone_0 : List UInt8 := [26, 2, 160, 0, 8, 16, 254, 167, 0, 4, 26, 172]
abbrev dktX8_orNone_0 : List UInt8 := dkwX8_orNone_0 ++ []
theorem dksX8_orNone_0 : cX8_orNone.data.toList.drop 0 = dktX8_orNone_0 := by decide +kernel
theorem dX8_orNone_0 : decode cX8_orNone 0 = .ok (.iload_n 0, 1) := dk_26 (dk_at dksX8_orNone_0 0 rfl rfl)
theorem dX8_orNone_1 : decode cX8_orNone 1 = .ok (.iconst (-1), 1) := dk_2 (dk_at dksX8_orNone_0 1 rfl rfl)
theorem dX8_orNone_2 : decode cX8_orNone 2 = .ok (.if_icmp .ne 8, 3) := dk_160 0 8 (dk_at dksX8_orNone_0 2 rfl rfl)
theorem dX8_orNone_5 : decode cX8_orNone 5 = .ok (.bipush (-2), 2) := dk_16 254 (dk_at dksX8_orNone_0 5 rfl rfl)
theorem dX8_orNone_7 : decode cX8_orNone 7 = .ok (.goto 4, 3) := dk_167 0 4 (dk_at dksX8_orNone_0 7 rfl rfl)
theorem dX8_orNone_10 : decode cX8_orNone 10 = .ok (.iload_n 0, 1) := dk_26 (dk_at dksX8_orNone_0 10 rfl rfl)
theorem dX8_orNone_11 : decode cX8_orNone 11 = .ok (.ireturn, 1) := dk_172 (dk_at dksX8_orNone_0 11 rfl rfl)
abbrev cX8_entryAt : ByteArray := prog_18_method_121_code
def yX8_entryAt : MethodName := ⟨RX8, "entryAt", "(III)I"⟩
def dkwX8_entryAt_2 : List UInt8 := [29, 96, 46, 167, 0, 5, 16, 254, 172]
abbrev dktX8_entryAt_2 : List UInt8 := dkwX8_entryAt_2 ++ []
def dkwX8_entryAt_1 : List UInt8 := [154, 0, 5, 2, 172, 42, 27, 28, 182, 1, 67, 153, 0, 19, 42, 180, 0, 7, 42, 27, 28, 182, 0, 112]
abbrev dktX8_entryAt_1 : List UInt8 := dkwX8_entryAt_1 ++ dktX8_entryAt_2
def dkwX8_entryAt_0 : List UInt8 := [27, 184, 0, 97, 153, 0, 23, 28, 4, 17, 3, 231, 184, 0, 93, 153, 0, 12, 29, 3, 6, 184, 0, 93]
abbrev dktX8_entryAt_0 : List UInt8 := dkwX8_entryAt_0 ++ dktX8_entryAt_1
theorem dksX8_entryAt_0 : cX8_entryAt.data.toList.drop 0 = dktX8_entryAt_0 := by decide +kernel
theorem dksX8_entryAt_1 : cX8_entryAt.data.toList.drop 24 = dktX8_entryAt_1 := dk_seg dksX8_entryAt_0 24 rfl rfl
theorem dksX8_entryAt_2 : cX8_entryAt.data.toList.drop 48 = dktX8_entryAt_2 := dk_seg dksX8_entryAt_1 24 rfl rfl
theorem dX8_entryAt_0 : decode cX8_entryAt 0 = .ok (.iload_n 1, 1) := dk_27 (dk_at dksX8_entryAt_0 0 rfl rfl)
theorem dX8_entryAt_1 : decode cX8_entryAt 1 = .ok (.invokestatic 97, 3) := dk_184 0 97 (dk_at dksX8_entryAt_0 1 rfl rfl)
theorem dX8_entryAt_4 : decode cX8_entryAt 4 = .ok (.ifCond .eq 23, 3) := dk_153 0 23 (dk_at dksX8_entryAt_0 4 rfl rfl)
theorem dX8_entryAt_7 : decode cX8_entryAt 7 = .ok (.iload_n 2, 1) := dk_28 (dk_at dksX8_entryAt_0 7 rfl rfl)
theorem dX8_entryAt_8 : decode cX8_entryAt 8 = .ok (.iconst 1, 1) := dk_4 (dk_at dksX8_entryAt_0 8 rfl rfl)
theorem dX8_entryAt_9 : decode cX8_entryAt 9 = .ok (.sipush 999, 3) := dk_17 3 231 (dk_at dksX8_entryAt_0 9 rfl rfl)
theorem dX8_entryAt_12 : decode cX8_entryAt 12 = .ok (.invokestatic 93, 3) := dk_184 0 93 (dk_at dksX8_entryAt_0 12 rfl rfl)
theorem dX8_entryAt_15 : decode cX8_entryAt 15 = .ok (.ifCond .eq 12, 3) := dk_153 0 12 (dk_at dksX8_entryAt_0 15 rfl rfl)
theorem dX8_entryAt_18 : decode cX8_entryAt 18 = .ok (.iload_n 3, 1) := dk_29 (dk_at dksX8_entryAt_0 18 rfl rfl)
theorem dX8_entryAt_19 : decode cX8_entryAt 19 = .ok (.iconst 0, 1) := dk_3 (dk_at dksX8_entryAt_0 19 rfl rfl)
theorem dX8_entryAt_20 : decode cX8_entryAt 20 = .ok (.iconst 3, 1) := dk_6 (dk_at dksX8_entryAt_0 20 rfl rfl)
theorem dX8_entryAt_21 : decode cX8_entryAt 21 = .ok (.invokestatic 93, 3) := dk_184 0 93 (dk_at dksX8_entryAt_0 21 rfl rfl)
theorem dX8_entryAt_24 : decode cX8_entryAt 24 = .ok (.ifCond .ne 5, 3) := dk_154 0 5 (dk_at dksX8_entryAt_1 0 rfl rfl)
theorem dX8_entryAt_27 : decode cX8_entryAt 27 = .ok (.iconst (-1), 1) := dk_2 (dk_at dksX8_entryAt_1 3 rfl rfl)
theorem dX8_entryAt_28 : decode cX8_entryAt 28 = .ok (.ireturn, 1) := dk_172 (dk_at dksX8_entryAt_1 4 rfl rfl)
theorem dX8_entryAt_29 : decode cX8_entryAt 29 = .ok (.aload_n 0, 1) := dk_42 (dk_at dksX8_entryAt_1 5 rfl rfl)
theorem dX8_entryAt_30 : decode cX8_entryAt 30 = .ok (.iload_n 1, 1) := dk_27 (dk_at dksX8_entryAt_1 6 rfl rfl)
theorem dX8_entryAt_31 : decode cX8_entryAt 31 = .ok (.iload_n 2, 1) := dk_28 (dk_at dksX8_entryAt_1 7 rfl rfl)
theorem dX8_entryAt_32 : decode cX8_entryAt 32 = .ok (.invokevirtual 323, 3) := dk_182 1 67 (dk_at dksX8_entryAt_1 8 rfl rfl)
theorem dX8_entryAt_35 : decode cX8_entryAt 35 = .ok (.ifCond .eq 19, 3) := dk_153 0 19 (dk_at dksX8_entryAt_1 11 rfl rfl)
theorem dX8_entryAt_38 : decode cX8_entryAt 38 = .ok (.aload_n 0, 1) := dk_42 (dk_at dksX8_entryAt_1 14 rfl rfl)
theorem dX8_entryAt_39 : decode cX8_entryAt 39 = .ok (.getfield 7, 3) := dk_180 0 7 (dk_at dksX8_entryAt_1 15 rfl rfl)
theorem dX8_entryAt_42 : decode cX8_entryAt 42 = .ok (.aload_n 0, 1) := dk_42 (dk_at dksX8_entryAt_1 18 rfl rfl)
theorem dX8_entryAt_43 : decode cX8_entryAt 43 = .ok (.iload_n 1, 1) := dk_27 (dk_at dksX8_entryAt_1 19 rfl rfl)
theorem dX8_entryAt_44 : decode cX8_entryAt 44 = .ok (.iload_n 2, 1) := dk_28 (dk_at dksX8_entryAt_1 20 rfl rfl)
theorem dX8_entryAt_45 : decode cX8_entryAt 45 = .ok (.invokevirtual 112, 3) := dk_182 0 112 (dk_at dksX8_entryAt_1 21 rfl rfl)
theorem dX8_entryAt_48 : decode cX8_entryAt 48 = .ok (.iload_n 3, 1) := dk_29 (dk_at dksX8_entryAt_2 0 rfl rfl)
theorem dX8_entryAt_49 : decode cX8_entryAt 49 = .ok (.iadd, 1) := dk_96 (dk_at dksX8_entryAt_2 1 rfl rfl)
theorem dX8_entryAt_50 : decode cX8_entryAt 50 = .ok (.iaload, 1) := dk_46 (dk_at dksX8_entryAt_2 2 rfl rfl)
theorem dX8_entryAt_51 : decode cX8_entryAt 51 = .ok (.goto 5, 3) := dk_167 0 5 (dk_at dksX8_entryAt_2 3 rfl rfl)
theorem dX8_entryAt_54 : decode cX8_entryAt 54 = .ok (.bipush (-2), 2) := dk_16 254 (dk_at dksX8_entryAt_2 6 rfl rfl)
theorem dX8_entryAt_56 : decode cX8_entryAt 56 = .ok (.ireturn, 1) := dk_172 (dk_at dksX8_entryAt_2 8 rfl rfl)
abbrev cX8_keyOf : ByteArray := prog_18_method_122_code
def yX8_keyOf : MethodName := ⟨RX8, "keyOf", "(II)I"⟩
def dkwX8_keyOf_3 : List UInt8 := [16, 254, 172]
abbrev dktX8_keyOf_3 : List UInt8 := dkwX8_keyOf_3 ++ []
def dkwX8_keyOf_2 : List UInt8 := [182, 0, 101, 172, 42, 27, 182, 0, 105, 153, 0, 15, 42, 27, 16, 15, 28, 96, 182, 0, 101, 167, 0, 5]
abbrev dktX8_keyOf_2 : List UInt8 := dkwX8_keyOf_2 ++ dktX8_keyOf_3
def dkwX8_keyOf_1 : List UInt8 := [184, 0, 93, 154, 0, 5, 2, 172, 28, 16, 10, 161, 0, 16, 42, 27, 16, 23, 28, 96, 16, 10, 100]
abbrev dktX8_keyOf_1 : List UInt8 := dkwX8_keyOf_1 ++ dktX8_keyOf_2
def dkwX8_keyOf_0 : List UInt8 := [27, 184, 0, 97, 153, 0, 24, 28, 3, 16, 7, 184, 0, 93, 154, 0, 16, 28, 16, 10, 16, 17]
abbrev dktX8_keyOf_0 : List UInt8 := dkwX8_keyOf_0 ++ dktX8_keyOf_1
theorem dksX8_keyOf_0 : cX8_keyOf.data.toList.drop 0 = dktX8_keyOf_0 := by decide +kernel
theorem dksX8_keyOf_1 : cX8_keyOf.data.toList.drop 22 = dktX8_keyOf_1 := dk_seg dksX8_keyOf_0 22 rfl rfl
theorem dksX8_keyOf_2 : cX8_keyOf.data.toList.drop 45 = dktX8_keyOf_2 := dk_seg dksX8_keyOf_1 23 rfl rfl
theorem dksX8_keyOf_3 : cX8_keyOf.data.toList.drop 69 = dktX8_keyOf_3 := dk_seg dksX8_keyOf_2 24 rfl rfl
theorem dX8_keyOf_0 : decode cX8_keyOf 0 = .ok (.iload_n 1, 1) := dk_27 (dk_at dksX8_keyOf_0 0 rfl rfl)
theorem dX8_keyOf_1 : decode cX8_keyOf 1 = .ok (.invokestatic 97, 3) := dk_184 0 97 (dk_at dksX8_keyOf_0 1 rfl rfl)
theorem dX8_keyOf_4 : decode cX8_keyOf 4 = .ok (.ifCond .eq 24, 3) := dk_153 0 24 (dk_at dksX8_keyOf_0 4 rfl rfl)
theorem dX8_keyOf_7 : decode cX8_keyOf 7 = .ok (.iload_n 2, 1) := dk_28 (dk_at dksX8_keyOf_0 7 rfl rfl)
theorem dX8_keyOf_8 : decode cX8_keyOf 8 = .ok (.iconst 0, 1) := dk_3 (dk_at dksX8_keyOf_0 8 rfl rfl)
theorem dX8_keyOf_9 : decode cX8_keyOf 9 = .ok (.bipush 7, 2) := dk_16 7 (dk_at dksX8_keyOf_0 9 rfl rfl)
theorem dX8_keyOf_11 : decode cX8_keyOf 11 = .ok (.invokestatic 93, 3) := dk_184 0 93 (dk_at dksX8_keyOf_0 11 rfl rfl)
theorem dX8_keyOf_14 : decode cX8_keyOf 14 = .ok (.ifCond .ne 16, 3) := dk_154 0 16 (dk_at dksX8_keyOf_0 14 rfl rfl)
theorem dX8_keyOf_17 : decode cX8_keyOf 17 = .ok (.iload_n 2, 1) := dk_28 (dk_at dksX8_keyOf_0 17 rfl rfl)
theorem dX8_keyOf_18 : decode cX8_keyOf 18 = .ok (.bipush 10, 2) := dk_16 10 (dk_at dksX8_keyOf_0 18 rfl rfl)
theorem dX8_keyOf_20 : decode cX8_keyOf 20 = .ok (.bipush 17, 2) := dk_16 17 (dk_at dksX8_keyOf_0 20 rfl rfl)
theorem dX8_keyOf_22 : decode cX8_keyOf 22 = .ok (.invokestatic 93, 3) := dk_184 0 93 (dk_at dksX8_keyOf_1 0 rfl rfl)
theorem dX8_keyOf_25 : decode cX8_keyOf 25 = .ok (.ifCond .ne 5, 3) := dk_154 0 5 (dk_at dksX8_keyOf_1 3 rfl rfl)
theorem dX8_keyOf_28 : decode cX8_keyOf 28 = .ok (.iconst (-1), 1) := dk_2 (dk_at dksX8_keyOf_1 6 rfl rfl)
theorem dX8_keyOf_29 : decode cX8_keyOf 29 = .ok (.ireturn, 1) := dk_172 (dk_at dksX8_keyOf_1 7 rfl rfl)
theorem dX8_keyOf_30 : decode cX8_keyOf 30 = .ok (.iload_n 2, 1) := dk_28 (dk_at dksX8_keyOf_1 8 rfl rfl)
theorem dX8_keyOf_31 : decode cX8_keyOf 31 = .ok (.bipush 10, 2) := dk_16 10 (dk_at dksX8_keyOf_1 9 rfl rfl)
theorem dX8_keyOf_33 : decode cX8_keyOf 33 = .ok (.if_icmp .lt 16, 3) := dk_161 0 16 (dk_at dksX8_keyOf_1 11 rfl rfl)
theorem dX8_keyOf_36 : decode cX8_keyOf 36 = .ok (.aload_n 0, 1) := dk_42 (dk_at dksX8_keyOf_1 14 rfl rfl)
theorem dX8_keyOf_37 : decode cX8_keyOf 37 = .ok (.iload_n 1, 1) := dk_27 (dk_at dksX8_keyOf_1 15 rfl rfl)
theorem dX8_keyOf_38 : decode cX8_keyOf 38 = .ok (.bipush 23, 2) := dk_16 23 (dk_at dksX8_keyOf_1 16 rfl rfl)
theorem dX8_keyOf_40 : decode cX8_keyOf 40 = .ok (.iload_n 2, 1) := dk_28 (dk_at dksX8_keyOf_1 18 rfl rfl)
theorem dX8_keyOf_41 : decode cX8_keyOf 41 = .ok (.iadd, 1) := dk_96 (dk_at dksX8_keyOf_1 19 rfl rfl)
theorem dX8_keyOf_42 : decode cX8_keyOf 42 = .ok (.bipush 10, 2) := dk_16 10 (dk_at dksX8_keyOf_1 20 rfl rfl)
theorem dX8_keyOf_44 : decode cX8_keyOf 44 = .ok (.isub, 1) := dk_100 (dk_at dksX8_keyOf_1 22 rfl rfl)
theorem dX8_keyOf_45 : decode cX8_keyOf 45 = .ok (.invokevirtual 101, 3) := dk_182 0 101 (dk_at dksX8_keyOf_2 0 rfl rfl)
theorem dX8_keyOf_48 : decode cX8_keyOf 48 = .ok (.ireturn, 1) := dk_172 (dk_at dksX8_keyOf_2 3 rfl rfl)
theorem dX8_keyOf_49 : decode cX8_keyOf 49 = .ok (.aload_n 0, 1) := dk_42 (dk_at dksX8_keyOf_2 4 rfl rfl)
theorem dX8_keyOf_50 : decode cX8_keyOf 50 = .ok (.iload_n 1, 1) := dk_27 (dk_at dksX8_keyOf_2 5 rfl rfl)
theorem dX8_keyOf_51 : decode cX8_keyOf 51 = .ok (.invokevirtual 105, 3) := dk_182 0 105 (dk_at dksX8_keyOf_2 6 rfl rfl)
theorem dX8_keyOf_54 : decode cX8_keyOf 54 = .ok (.ifCond .eq 15, 3) := dk_153 0 15 (dk_at dksX8_keyOf_2 9 rfl rfl)
theorem dX8_keyOf_57 : decode cX8_keyOf 57 = .ok (.aload_n 0, 1) := dk_42 (dk_at dksX8_keyOf_2 12 rfl rfl)
theorem dX8_keyOf_58 : decode cX8_keyOf 58 = .ok (.iload_n 1, 1) := dk_27 (dk_at dksX8_keyOf_2 13 rfl rfl)
theorem dX8_keyOf_59 : decode cX8_keyOf 59 = .ok (.bipush 15, 2) := dk_16 15 (dk_at dksX8_keyOf_2 14 rfl rfl)
theorem dX8_keyOf_61 : decode cX8_keyOf 61 = .ok (.iload_n 2, 1) := dk_28 (dk_at dksX8_keyOf_2 16 rfl rfl)
theorem dX8_keyOf_62 : decode cX8_keyOf 62 = .ok (.iadd, 1) := dk_96 (dk_at dksX8_keyOf_2 17 rfl rfl)
theorem dX8_keyOf_63 : decode cX8_keyOf 63 = .ok (.invokevirtual 101, 3) := dk_182 0 101 (dk_at dksX8_keyOf_2 18 rfl rfl)
theorem dX8_keyOf_66 : decode cX8_keyOf 66 = .ok (.goto 5, 3) := dk_167 0 5 (dk_at dksX8_keyOf_2 21 rfl rfl)
theorem dX8_keyOf_69 : decode cX8_keyOf 69 = .ok (.bipush (-2), 2) := dk_16 254 (dk_at dksX8_keyOf_3 0 rfl rfl)
theorem dX8_keyOf_71 : decode cX8_keyOf 71 = .ok (.ireturn, 1) := dk_172 (dk_at dksX8_keyOf_3 2 rfl rfl)
abbrev cX8_about : ByteArray := prog_18_method_123_code
def yX8_about : MethodName := ⟨RX8, "about", "(III)I"⟩
def dkwX8_about_3 : List UInt8 := [27, 16, 45, 28, 96, 182, 0, 101, 172]
abbrev dktX8_about_3 : List UInt8 := dkwX8_about_3 ++ []
def dkwX8_about_2 : List UInt8 := [182, 0, 101, 167, 0, 29, 29, 4, 160, 0, 15, 42, 27, 16, 38, 28, 96, 182, 0, 101, 167, 0, 12, 42]
abbrev dktX8_about_2 : List UInt8 := dkwX8_about_2 ++ dktX8_about_3
def dkwX8_about_1 : List UInt8 := [172, 42, 27, 182, 1, 158, 154, 0, 6, 16, 254, 172, 29, 154, 0, 15, 42, 27, 16, 31, 28, 96]
abbrev dktX8_about_1 : List UInt8 := dkwX8_about_1 ++ dktX8_about_2
def dkwX8_about_0 : List UInt8 := [27, 184, 0, 97, 153, 0, 19, 28, 184, 0, 97, 153, 0, 12, 29, 3, 5, 184, 0, 93, 154, 0, 5, 2]
abbrev dktX8_about_0 : List UInt8 := dkwX8_about_0 ++ dktX8_about_1
theorem dksX8_about_0 : cX8_about.data.toList.drop 0 = dktX8_about_0 := by decide +kernel
theorem dksX8_about_1 : cX8_about.data.toList.drop 24 = dktX8_about_1 := dk_seg dksX8_about_0 24 rfl rfl
theorem dksX8_about_2 : cX8_about.data.toList.drop 46 = dktX8_about_2 := dk_seg dksX8_about_1 22 rfl rfl
theorem dksX8_about_3 : cX8_about.data.toList.drop 70 = dktX8_about_3 := dk_seg dksX8_about_2 24 rfl rfl
theorem dX8_about_0 : decode cX8_about 0 = .ok (.iload_n 1, 1) := dk_27 (dk_at dksX8_about_0 0 rfl rfl)
theorem dX8_about_1 : decode cX8_about 1 = .ok (.invokestatic 97, 3) := dk_184 0 97 (dk_at dksX8_about_0 1 rfl rfl)
theorem dX8_about_4 : decode cX8_about 4 = .ok (.ifCond .eq 19, 3) := dk_153 0 19 (dk_at dksX8_about_0 4 rfl rfl)
theorem dX8_about_7 : decode cX8_about 7 = .ok (.iload_n 2, 1) := dk_28 (dk_at dksX8_about_0 7 rfl rfl)
theorem dX8_about_8 : decode cX8_about 8 = .ok (.invokestatic 97, 3) := dk_184 0 97 (dk_at dksX8_about_0 8 rfl rfl)
theorem dX8_about_11 : decode cX8_about 11 = .ok (.ifCond .eq 12, 3) := dk_153 0 12 (dk_at dksX8_about_0 11 rfl rfl)
theorem dX8_about_14 : decode cX8_about 14 = .ok (.iload_n 3, 1) := dk_29 (dk_at dksX8_about_0 14 rfl rfl)
theorem dX8_about_15 : decode cX8_about 15 = .ok (.iconst 0, 1) := dk_3 (dk_at dksX8_about_0 15 rfl rfl)
theorem dX8_about_16 : decode cX8_about 16 = .ok (.iconst 2, 1) := dk_5 (dk_at dksX8_about_0 16 rfl rfl)
theorem dX8_about_17 : decode cX8_about 17 = .ok (.invokestatic 93, 3) := dk_184 0 93 (dk_at dksX8_about_0 17 rfl rfl)
theorem dX8_about_20 : decode cX8_about 20 = .ok (.ifCond .ne 5, 3) := dk_154 0 5 (dk_at dksX8_about_0 20 rfl rfl)
theorem dX8_about_23 : decode cX8_about 23 = .ok (.iconst (-1), 1) := dk_2 (dk_at dksX8_about_0 23 rfl rfl)
theorem dX8_about_24 : decode cX8_about 24 = .ok (.ireturn, 1) := dk_172 (dk_at dksX8_about_1 0 rfl rfl)
theorem dX8_about_25 : decode cX8_about 25 = .ok (.aload_n 0, 1) := dk_42 (dk_at dksX8_about_1 1 rfl rfl)
theorem dX8_about_26 : decode cX8_about 26 = .ok (.iload_n 1, 1) := dk_27 (dk_at dksX8_about_1 2 rfl rfl)
theorem dX8_about_27 : decode cX8_about 27 = .ok (.invokevirtual 414, 3) := dk_182 1 158 (dk_at dksX8_about_1 3 rfl rfl)
theorem dX8_about_30 : decode cX8_about 30 = .ok (.ifCond .ne 6, 3) := dk_154 0 6 (dk_at dksX8_about_1 6 rfl rfl)
theorem dX8_about_33 : decode cX8_about 33 = .ok (.bipush (-2), 2) := dk_16 254 (dk_at dksX8_about_1 9 rfl rfl)
theorem dX8_about_35 : decode cX8_about 35 = .ok (.ireturn, 1) := dk_172 (dk_at dksX8_about_1 11 rfl rfl)
theorem dX8_about_36 : decode cX8_about 36 = .ok (.iload_n 3, 1) := dk_29 (dk_at dksX8_about_1 12 rfl rfl)
theorem dX8_about_37 : decode cX8_about 37 = .ok (.ifCond .ne 15, 3) := dk_154 0 15 (dk_at dksX8_about_1 13 rfl rfl)
theorem dX8_about_40 : decode cX8_about 40 = .ok (.aload_n 0, 1) := dk_42 (dk_at dksX8_about_1 16 rfl rfl)
theorem dX8_about_41 : decode cX8_about 41 = .ok (.iload_n 1, 1) := dk_27 (dk_at dksX8_about_1 17 rfl rfl)
theorem dX8_about_42 : decode cX8_about 42 = .ok (.bipush 31, 2) := dk_16 31 (dk_at dksX8_about_1 18 rfl rfl)
theorem dX8_about_44 : decode cX8_about 44 = .ok (.iload_n 2, 1) := dk_28 (dk_at dksX8_about_1 20 rfl rfl)
theorem dX8_about_45 : decode cX8_about 45 = .ok (.iadd, 1) := dk_96 (dk_at dksX8_about_1 21 rfl rfl)
theorem dX8_about_46 : decode cX8_about 46 = .ok (.invokevirtual 101, 3) := dk_182 0 101 (dk_at dksX8_about_2 0 rfl rfl)
theorem dX8_about_49 : decode cX8_about 49 = .ok (.goto 29, 3) := dk_167 0 29 (dk_at dksX8_about_2 3 rfl rfl)
theorem dX8_about_52 : decode cX8_about 52 = .ok (.iload_n 3, 1) := dk_29 (dk_at dksX8_about_2 6 rfl rfl)
theorem dX8_about_53 : decode cX8_about 53 = .ok (.iconst 1, 1) := dk_4 (dk_at dksX8_about_2 7 rfl rfl)
theorem dX8_about_54 : decode cX8_about 54 = .ok (.if_icmp .ne 15, 3) := dk_160 0 15 (dk_at dksX8_about_2 8 rfl rfl)
theorem dX8_about_57 : decode cX8_about 57 = .ok (.aload_n 0, 1) := dk_42 (dk_at dksX8_about_2 11 rfl rfl)
theorem dX8_about_58 : decode cX8_about 58 = .ok (.iload_n 1, 1) := dk_27 (dk_at dksX8_about_2 12 rfl rfl)
theorem dX8_about_59 : decode cX8_about 59 = .ok (.bipush 38, 2) := dk_16 38 (dk_at dksX8_about_2 13 rfl rfl)
theorem dX8_about_61 : decode cX8_about 61 = .ok (.iload_n 2, 1) := dk_28 (dk_at dksX8_about_2 15 rfl rfl)
theorem dX8_about_62 : decode cX8_about 62 = .ok (.iadd, 1) := dk_96 (dk_at dksX8_about_2 16 rfl rfl)
theorem dX8_about_63 : decode cX8_about 63 = .ok (.invokevirtual 101, 3) := dk_182 0 101 (dk_at dksX8_about_2 17 rfl rfl)
theorem dX8_about_66 : decode cX8_about 66 = .ok (.goto 12, 3) := dk_167 0 12 (dk_at dksX8_about_2 20 rfl rfl)
theorem dX8_about_69 : decode cX8_about 69 = .ok (.aload_n 0, 1) := dk_42 (dk_at dksX8_about_2 23 rfl rfl)
theorem dX8_about_70 : decode cX8_about 70 = .ok (.iload_n 1, 1) := dk_27 (dk_at dksX8_about_3 0 rfl rfl)
theorem dX8_about_71 : decode cX8_about 71 = .ok (.bipush 45, 2) := dk_16 45 (dk_at dksX8_about_3 1 rfl rfl)
theorem dX8_about_73 : decode cX8_about 73 = .ok (.iload_n 2, 1) := dk_28 (dk_at dksX8_about_3 3 rfl rfl)
theorem dX8_about_74 : decode cX8_about 74 = .ok (.iadd, 1) := dk_96 (dk_at dksX8_about_3 4 rfl rfl)
theorem dX8_about_75 : decode cX8_about 75 = .ok (.invokevirtual 101, 3) := dk_182 0 101 (dk_at dksX8_about_3 5 rfl rfl)
theorem dX8_about_78 : decode cX8_about 78 = .ok (.ireturn, 1) := dk_172 (dk_at dksX8_about_3 8 rfl rfl)
abbrev cX8_message : ByteArray := prog_18_method_124_code
def yX8_message : MethodName := ⟨RX8, "message", "(II)I"⟩
def dkwX8_message_1 : List UInt8 := [162, 0, 21, 42, 180, 0, 7, 17, 6, 172, 16, 27, 27, 104, 96, 28, 96, 46, 167, 0, 5, 16, 252, 172]
abbrev dktX8_message_1 : List UInt8 := dkwX8_message_1 ++ []
def dkwX8_message_0 : List UInt8 := [27, 155, 0, 12, 28, 3, 8, 184, 0, 93, 154, 0, 5, 2, 172, 27, 42, 180, 0, 7, 17, 43, 125, 46]
abbrev dktX8_message_0 : List UInt8 := dkwX8_message_0 ++ dktX8_message_1
theorem dksX8_message_0 : cX8_message.data.toList.drop 0 = dktX8_message_0 := by decide +kernel
theorem dksX8_message_1 : cX8_message.data.toList.drop 24 = dktX8_message_1 := dk_seg dksX8_message_0 24 rfl rfl
theorem dX8_message_0 : decode cX8_message 0 = .ok (.iload_n 1, 1) := dk_27 (dk_at dksX8_message_0 0 rfl rfl)
theorem dX8_message_1 : decode cX8_message 1 = .ok (.ifCond .lt 12, 3) := dk_155 0 12 (dk_at dksX8_message_0 1 rfl rfl)
theorem dX8_message_4 : decode cX8_message 4 = .ok (.iload_n 2, 1) := dk_28 (dk_at dksX8_message_0 4 rfl rfl)
theorem dX8_message_5 : decode cX8_message 5 = .ok (.iconst 0, 1) := dk_3 (dk_at dksX8_message_0 5 rfl rfl)
theorem dX8_message_6 : decode cX8_message 6 = .ok (.iconst 5, 1) := dk_8 (dk_at dksX8_message_0 6 rfl rfl)
theorem dX8_message_7 : decode cX8_message 7 = .ok (.invokestatic 93, 3) := dk_184 0 93 (dk_at dksX8_message_0 7 rfl rfl)
theorem dX8_message_10 : decode cX8_message 10 = .ok (.ifCond .ne 5, 3) := dk_154 0 5 (dk_at dksX8_message_0 10 rfl rfl)
theorem dX8_message_13 : decode cX8_message 13 = .ok (.iconst (-1), 1) := dk_2 (dk_at dksX8_message_0 13 rfl rfl)
theorem dX8_message_14 : decode cX8_message 14 = .ok (.ireturn, 1) := dk_172 (dk_at dksX8_message_0 14 rfl rfl)
theorem dX8_message_15 : decode cX8_message 15 = .ok (.iload_n 1, 1) := dk_27 (dk_at dksX8_message_0 15 rfl rfl)
theorem dX8_message_16 : decode cX8_message 16 = .ok (.aload_n 0, 1) := dk_42 (dk_at dksX8_message_0 16 rfl rfl)
theorem dX8_message_17 : decode cX8_message 17 = .ok (.getfield 7, 3) := dk_180 0 7 (dk_at dksX8_message_0 17 rfl rfl)
theorem dX8_message_20 : decode cX8_message 20 = .ok (.sipush 11133, 3) := dk_17 43 125 (dk_at dksX8_message_0 20 rfl rfl)
theorem dX8_message_23 : decode cX8_message 23 = .ok (.iaload, 1) := dk_46 (dk_at dksX8_message_0 23 rfl rfl)
theorem dX8_message_24 : decode cX8_message 24 = .ok (.if_icmp .ge 21, 3) := dk_162 0 21 (dk_at dksX8_message_1 0 rfl rfl)
theorem dX8_message_27 : decode cX8_message 27 = .ok (.aload_n 0, 1) := dk_42 (dk_at dksX8_message_1 3 rfl rfl)
theorem dX8_message_28 : decode cX8_message 28 = .ok (.getfield 7, 3) := dk_180 0 7 (dk_at dksX8_message_1 4 rfl rfl)
theorem dX8_message_31 : decode cX8_message 31 = .ok (.sipush 1708, 3) := dk_17 6 172 (dk_at dksX8_message_1 7 rfl rfl)
theorem dX8_message_34 : decode cX8_message 34 = .ok (.bipush 27, 2) := dk_16 27 (dk_at dksX8_message_1 10 rfl rfl)
theorem dX8_message_36 : decode cX8_message 36 = .ok (.iload_n 1, 1) := dk_27 (dk_at dksX8_message_1 12 rfl rfl)
theorem dX8_message_37 : decode cX8_message 37 = .ok (.imul, 1) := dk_104 (dk_at dksX8_message_1 13 rfl rfl)
theorem dX8_message_38 : decode cX8_message 38 = .ok (.iadd, 1) := dk_96 (dk_at dksX8_message_1 14 rfl rfl)
theorem dX8_message_39 : decode cX8_message 39 = .ok (.iload_n 2, 1) := dk_28 (dk_at dksX8_message_1 15 rfl rfl)
theorem dX8_message_40 : decode cX8_message 40 = .ok (.iadd, 1) := dk_96 (dk_at dksX8_message_1 16 rfl rfl)
theorem dX8_message_41 : decode cX8_message 41 = .ok (.iaload, 1) := dk_46 (dk_at dksX8_message_1 17 rfl rfl)
theorem dX8_message_42 : decode cX8_message 42 = .ok (.goto 5, 3) := dk_167 0 5 (dk_at dksX8_message_1 18 rfl rfl)
theorem dX8_message_45 : decode cX8_message 45 = .ok (.bipush (-4), 2) := dk_16 252 (dk_at dksX8_message_1 21 rfl rfl)
theorem dX8_message_47 : decode cX8_message 47 = .ok (.ireturn, 1) := dk_172 (dk_at dksX8_message_1 23 rfl rfl)
abbrev cX8_heldAt : ByteArray := prog_18_method_125_code
def yX8_heldAt : MethodName := ⟨RX8, "heldAt", "(II)I"⟩
def dkwX8_heldAt_2 : List UInt8 := [167, 0, 17, 42, 180, 0, 7, 17, 23, 140, 7, 27, 104, 96, 28, 96, 46, 172]
abbrev dktX8_heldAt_2 : List UInt8 := dkwX8_heldAt_2 ++ []
def dkwX8_heldAt_1 : List UInt8 := [17, 3, 231, 163, 0, 18, 42, 180, 0, 7, 17, 23, 140, 7, 27, 104, 96, 46, 154, 0, 8, 16, 254]
abbrev dktX8_heldAt_1 : List UInt8 := dkwX8_heldAt_1 ++ dktX8_heldAt_2
def dkwX8_heldAt_0 : List UInt8 := [27, 4, 17, 39, 15, 184, 0, 93, 153, 0, 12, 28, 3, 6, 184, 0, 93, 154, 0, 5, 2, 172, 27]
abbrev dktX8_heldAt_0 : List UInt8 := dkwX8_heldAt_0 ++ dktX8_heldAt_1
theorem dksX8_heldAt_0 : cX8_heldAt.data.toList.drop 0 = dktX8_heldAt_0 := by decide +kernel
theorem dksX8_heldAt_1 : cX8_heldAt.data.toList.drop 23 = dktX8_heldAt_1 := dk_seg dksX8_heldAt_0 23 rfl rfl
theorem dksX8_heldAt_2 : cX8_heldAt.data.toList.drop 46 = dktX8_heldAt_2 := dk_seg dksX8_heldAt_1 23 rfl rfl
theorem dX8_heldAt_0 : decode cX8_heldAt 0 = .ok (.iload_n 1, 1) := dk_27 (dk_at dksX8_heldAt_0 0 rfl rfl)
theorem dX8_heldAt_1 : decode cX8_heldAt 1 = .ok (.iconst 1, 1) := dk_4 (dk_at dksX8_heldAt_0 1 rfl rfl)
theorem dX8_heldAt_2 : decode cX8_heldAt 2 = .ok (.sipush 9999, 3) := dk_17 39 15 (dk_at dksX8_heldAt_0 2 rfl rfl)
theorem dX8_heldAt_5 : decode cX8_heldAt 5 = .ok (.invokestatic 93, 3) := dk_184 0 93 (dk_at dksX8_heldAt_0 5 rfl rfl)
theorem dX8_heldAt_8 : decode cX8_heldAt 8 = .ok (.ifCond .eq 12, 3) := dk_153 0 12 (dk_at dksX8_heldAt_0 8 rfl rfl)
theorem dX8_heldAt_11 : decode cX8_heldAt 11 = .ok (.iload_n 2, 1) := dk_28 (dk_at dksX8_heldAt_0 11 rfl rfl)
theorem dX8_heldAt_12 : decode cX8_heldAt 12 = .ok (.iconst 0, 1) := dk_3 (dk_at dksX8_heldAt_0 12 rfl rfl)
theorem dX8_heldAt_13 : decode cX8_heldAt 13 = .ok (.iconst 3, 1) := dk_6 (dk_at dksX8_heldAt_0 13 rfl rfl)
theorem dX8_heldAt_14 : decode cX8_heldAt 14 = .ok (.invokestatic 93, 3) := dk_184 0 93 (dk_at dksX8_heldAt_0 14 rfl rfl)
theorem dX8_heldAt_17 : decode cX8_heldAt 17 = .ok (.ifCond .ne 5, 3) := dk_154 0 5 (dk_at dksX8_heldAt_0 17 rfl rfl)
theorem dX8_heldAt_20 : decode cX8_heldAt 20 = .ok (.iconst (-1), 1) := dk_2 (dk_at dksX8_heldAt_0 20 rfl rfl)
theorem dX8_heldAt_21 : decode cX8_heldAt 21 = .ok (.ireturn, 1) := dk_172 (dk_at dksX8_heldAt_0 21 rfl rfl)
theorem dX8_heldAt_22 : decode cX8_heldAt 22 = .ok (.iload_n 1, 1) := dk_27 (dk_at dksX8_heldAt_0 22 rfl rfl)
theorem dX8_heldAt_23 : decode cX8_heldAt 23 = .ok (.sipush 999, 3) := dk_17 3 231 (dk_at dksX8_heldAt_1 0 rfl rfl)
theorem dX8_heldAt_26 : decode cX8_heldAt 26 = .ok (.if_icmp .gt 18, 3) := dk_163 0 18 (dk_at dksX8_heldAt_1 3 rfl rfl)
theorem dX8_heldAt_29 : decode cX8_heldAt 29 = .ok (.aload_n 0, 1) := dk_42 (dk_at dksX8_heldAt_1 6 rfl rfl)
theorem dX8_heldAt_30 : decode cX8_heldAt 30 = .ok (.getfield 7, 3) := dk_180 0 7 (dk_at dksX8_heldAt_1 7 rfl rfl)
theorem dX8_heldAt_33 : decode cX8_heldAt 33 = .ok (.sipush 6028, 3) := dk_17 23 140 (dk_at dksX8_heldAt_1 10 rfl rfl)
theorem dX8_heldAt_36 : decode cX8_heldAt 36 = .ok (.iconst 4, 1) := dk_7 (dk_at dksX8_heldAt_1 13 rfl rfl)
theorem dX8_heldAt_37 : decode cX8_heldAt 37 = .ok (.iload_n 1, 1) := dk_27 (dk_at dksX8_heldAt_1 14 rfl rfl)
theorem dX8_heldAt_38 : decode cX8_heldAt 38 = .ok (.imul, 1) := dk_104 (dk_at dksX8_heldAt_1 15 rfl rfl)
theorem dX8_heldAt_39 : decode cX8_heldAt 39 = .ok (.iadd, 1) := dk_96 (dk_at dksX8_heldAt_1 16 rfl rfl)
theorem dX8_heldAt_40 : decode cX8_heldAt 40 = .ok (.iaload, 1) := dk_46 (dk_at dksX8_heldAt_1 17 rfl rfl)
theorem dX8_heldAt_41 : decode cX8_heldAt 41 = .ok (.ifCond .ne 8, 3) := dk_154 0 8 (dk_at dksX8_heldAt_1 18 rfl rfl)
theorem dX8_heldAt_44 : decode cX8_heldAt 44 = .ok (.bipush (-2), 2) := dk_16 254 (dk_at dksX8_heldAt_1 21 rfl rfl)
theorem dX8_heldAt_46 : decode cX8_heldAt 46 = .ok (.goto 17, 3) := dk_167 0 17 (dk_at dksX8_heldAt_2 0 rfl rfl)
theorem dX8_heldAt_49 : decode cX8_heldAt 49 = .ok (.aload_n 0, 1) := dk_42 (dk_at dksX8_heldAt_2 3 rfl rfl)
theorem dX8_heldAt_50 : decode cX8_heldAt 50 = .ok (.getfield 7, 3) := dk_180 0 7 (dk_at dksX8_heldAt_2 4 rfl rfl)
theorem dX8_heldAt_53 : decode cX8_heldAt 53 = .ok (.sipush 6028, 3) := dk_17 23 140 (dk_at dksX8_heldAt_2 7 rfl rfl)
theorem dX8_heldAt_56 : decode cX8_heldAt 56 = .ok (.iconst 4, 1) := dk_7 (dk_at dksX8_heldAt_2 10 rfl rfl)
theorem dX8_heldAt_57 : decode cX8_heldAt 57 = .ok (.iload_n 1, 1) := dk_27 (dk_at dksX8_heldAt_2 11 rfl rfl)
theorem dX8_heldAt_58 : decode cX8_heldAt 58 = .ok (.imul, 1) := dk_104 (dk_at dksX8_heldAt_2 12 rfl rfl)
theorem dX8_heldAt_59 : decode cX8_heldAt 59 = .ok (.iadd, 1) := dk_96 (dk_at dksX8_heldAt_2 13 rfl rfl)
theorem dX8_heldAt_60 : decode cX8_heldAt 60 = .ok (.iload_n 2, 1) := dk_28 (dk_at dksX8_heldAt_2 14 rfl rfl)
theorem dX8_heldAt_61 : decode cX8_heldAt 61 = .ok (.iadd, 1) := dk_96 (dk_at dksX8_heldAt_2 15 rfl rfl)
theorem dX8_heldAt_62 : decode cX8_heldAt 62 = .ok (.iaload, 1) := dk_46 (dk_at dksX8_heldAt_2 16 rfl rfl)
theorem dX8_heldAt_63 : decode cX8_heldAt 63 = .ok (.ireturn, 1) := dk_172 (dk_at dksX8_heldAt_2 17 rfl rfl)
abbrev cX8_readIs : ByteArray := prog_18_method_126_code
def yX8_readIs : MethodName := ⟨RX8, "readIs", "(II)I"⟩
def dkwX8_readIs_5 : List UInt8 := [29, 4, 96, 46, 172, 2, 172]
abbrev dktX8_readIs_5 : List UInt8 := dkwX8_readIs_5 ++ []
def dkwX8_readIs_4 : List UInt8 := [180, 0, 7, 29, 8, 96, 46, 167, 0, 5, 16, 254, 172, 42, 180, 0, 7, 29, 46, 172, 42, 180, 0, 7]
abbrev dktX8_readIs_4 : List UInt8 := dkwX8_readIs_4 ++ dktX8_readIs_5
def dkwX8_readIs_3 : List UInt8 := [42, 180, 0, 7, 29, 7, 96, 46, 172, 42, 180, 0, 7, 29, 7, 96, 46, 4, 160, 0, 14, 42]
abbrev dktX8_readIs_3 : List UInt8 := dkwX8_readIs_3 ++ dktX8_readIs_4
def dkwX8_readIs_2 : List UInt8 := [170, 0, 0, 0, 0, 81, 0, 0, 0, 0, 0, 0, 0, 3, 0, 0, 0, 30, 0, 0, 0, 39, 0, 0, 0, 65, 0, 0, 0, 72]
abbrev dktX8_readIs_2 : List UInt8 := dkwX8_readIs_2 ++ dktX8_readIs_3
def dkwX8_readIs_1 : List UInt8 := [16, 6, 27, 104, 96, 62, 28]
abbrev dktX8_readIs_1 : List UInt8 := dkwX8_readIs_1 ++ dktX8_readIs_2
def dkwX8_readIs_0 : List UInt8 := [27, 3, 42, 180, 0, 7, 17, 43, 127, 46, 4, 100, 184, 0, 93, 154, 0, 5, 2, 172, 17, 43, 20]
abbrev dktX8_readIs_0 : List UInt8 := dkwX8_readIs_0 ++ dktX8_readIs_1
theorem dksX8_readIs_0 : cX8_readIs.data.toList.drop 0 = dktX8_readIs_0 := by decide +kernel
theorem dksX8_readIs_1 : cX8_readIs.data.toList.drop 23 = dktX8_readIs_1 := dk_seg dksX8_readIs_0 23 rfl rfl
theorem dksX8_readIs_2 : cX8_readIs.data.toList.drop 30 = dktX8_readIs_2 := dk_seg dksX8_readIs_1 7 rfl rfl
theorem dksX8_readIs_3 : cX8_readIs.data.toList.drop 60 = dktX8_readIs_3 := dk_seg dksX8_readIs_2 30 rfl rfl
theorem dksX8_readIs_4 : cX8_readIs.data.toList.drop 82 = dktX8_readIs_4 := dk_seg dksX8_readIs_3 22 rfl rfl
theorem dksX8_readIs_5 : cX8_readIs.data.toList.drop 106 = dktX8_readIs_5 := dk_seg dksX8_readIs_4 24 rfl rfl
theorem dX8_readIs_0 : decode cX8_readIs 0 = .ok (.iload_n 1, 1) := dk_27 (dk_at dksX8_readIs_0 0 rfl rfl)
theorem dX8_readIs_1 : decode cX8_readIs 1 = .ok (.iconst 0, 1) := dk_3 (dk_at dksX8_readIs_0 1 rfl rfl)
theorem dX8_readIs_2 : decode cX8_readIs 2 = .ok (.aload_n 0, 1) := dk_42 (dk_at dksX8_readIs_0 2 rfl rfl)
theorem dX8_readIs_3 : decode cX8_readIs 3 = .ok (.getfield 7, 3) := dk_180 0 7 (dk_at dksX8_readIs_0 3 rfl rfl)
theorem dX8_readIs_6 : decode cX8_readIs 6 = .ok (.sipush 11135, 3) := dk_17 43 127 (dk_at dksX8_readIs_0 6 rfl rfl)
theorem dX8_readIs_9 : decode cX8_readIs 9 = .ok (.iaload, 1) := dk_46 (dk_at dksX8_readIs_0 9 rfl rfl)
theorem dX8_readIs_10 : decode cX8_readIs 10 = .ok (.iconst 1, 1) := dk_4 (dk_at dksX8_readIs_0 10 rfl rfl)
theorem dX8_readIs_11 : decode cX8_readIs 11 = .ok (.isub, 1) := dk_100 (dk_at dksX8_readIs_0 11 rfl rfl)
theorem dX8_readIs_12 : decode cX8_readIs 12 = .ok (.invokestatic 93, 3) := dk_184 0 93 (dk_at dksX8_readIs_0 12 rfl rfl)
theorem dX8_readIs_15 : decode cX8_readIs 15 = .ok (.ifCond .ne 5, 3) := dk_154 0 5 (dk_at dksX8_readIs_0 15 rfl rfl)
theorem dX8_readIs_18 : decode cX8_readIs 18 = .ok (.iconst (-1), 1) := dk_2 (dk_at dksX8_readIs_0 18 rfl rfl)
theorem dX8_readIs_19 : decode cX8_readIs 19 = .ok (.ireturn, 1) := dk_172 (dk_at dksX8_readIs_0 19 rfl rfl)
theorem dX8_readIs_20 : decode cX8_readIs 20 = .ok (.sipush 11028, 3) := dk_17 43 20 (dk_at dksX8_readIs_0 20 rfl rfl)
theorem dX8_readIs_23 : decode cX8_readIs 23 = .ok (.bipush 6, 2) := dk_16 6 (dk_at dksX8_readIs_1 0 rfl rfl)
theorem dX8_readIs_25 : decode cX8_readIs 25 = .ok (.iload_n 1, 1) := dk_27 (dk_at dksX8_readIs_1 2 rfl rfl)
theorem dX8_readIs_26 : decode cX8_readIs 26 = .ok (.imul, 1) := dk_104 (dk_at dksX8_readIs_1 3 rfl rfl)
theorem dX8_readIs_27 : decode cX8_readIs 27 = .ok (.iadd, 1) := dk_96 (dk_at dksX8_readIs_1 4 rfl rfl)
theorem dX8_readIs_28 : decode cX8_readIs 28 = .ok (.istore_n 3, 1) := dk_62 (dk_at dksX8_readIs_1 5 rfl rfl)
theorem dX8_readIs_29 : decode cX8_readIs 29 = .ok (.iload_n 2, 1) := dk_28 (dk_at dksX8_readIs_1 6 rfl rfl)
theorem dX8_readIs_30 : decode cX8_readIs 30 = .ok (.tableswitch 81 0 3 #[30, 39, 65, 72], 30) := by decide +kernel
theorem dX8_readIs_60 : decode cX8_readIs 60 = .ok (.aload_n 0, 1) := dk_42 (dk_at dksX8_readIs_3 0 rfl rfl)
theorem dX8_readIs_61 : decode cX8_readIs 61 = .ok (.getfield 7, 3) := dk_180 0 7 (dk_at dksX8_readIs_3 1 rfl rfl)
theorem dX8_readIs_64 : decode cX8_readIs 64 = .ok (.iload_n 3, 1) := dk_29 (dk_at dksX8_readIs_3 4 rfl rfl)
theorem dX8_readIs_65 : decode cX8_readIs 65 = .ok (.iconst 4, 1) := dk_7 (dk_at dksX8_readIs_3 5 rfl rfl)
theorem dX8_readIs_66 : decode cX8_readIs 66 = .ok (.iadd, 1) := dk_96 (dk_at dksX8_readIs_3 6 rfl rfl)
theorem dX8_readIs_67 : decode cX8_readIs 67 = .ok (.iaload, 1) := dk_46 (dk_at dksX8_readIs_3 7 rfl rfl)
theorem dX8_readIs_68 : decode cX8_readIs 68 = .ok (.ireturn, 1) := dk_172 (dk_at dksX8_readIs_3 8 rfl rfl)
theorem dX8_readIs_69 : decode cX8_readIs 69 = .ok (.aload_n 0, 1) := dk_42 (dk_at dksX8_readIs_3 9 rfl rfl)
theorem dX8_readIs_70 : decode cX8_readIs 70 = .ok (.getfield 7, 3) := dk_180 0 7 (dk_at dksX8_readIs_3 10 rfl rfl)
theorem dX8_readIs_73 : decode cX8_readIs 73 = .ok (.iload_n 3, 1) := dk_29 (dk_at dksX8_readIs_3 13 rfl rfl)
theorem dX8_readIs_74 : decode cX8_readIs 74 = .ok (.iconst 4, 1) := dk_7 (dk_at dksX8_readIs_3 14 rfl rfl)
theorem dX8_readIs_75 : decode cX8_readIs 75 = .ok (.iadd, 1) := dk_96 (dk_at dksX8_readIs_3 15 rfl rfl)
theorem dX8_readIs_76 : decode cX8_readIs 76 = .ok (.iaload, 1) := dk_46 (dk_at dksX8_readIs_3 16 rfl rfl)
theorem dX8_readIs_77 : decode cX8_readIs 77 = .ok (.iconst 1, 1) := dk_4 (dk_at dksX8_readIs_3 17 rfl rfl)
theorem dX8_readIs_78 : decode cX8_readIs 78 = .ok (.if_icmp .ne 14, 3) := dk_160 0 14 (dk_at dksX8_readIs_3 18 rfl rfl)
theorem dX8_readIs_81 : decode cX8_readIs 81 = .ok (.aload_n 0, 1) := dk_42 (dk_at dksX8_readIs_3 21 rfl rfl)
theorem dX8_readIs_82 : decode cX8_readIs 82 = .ok (.getfield 7, 3) := dk_180 0 7 (dk_at dksX8_readIs_4 0 rfl rfl)
theorem dX8_readIs_85 : decode cX8_readIs 85 = .ok (.iload_n 3, 1) := dk_29 (dk_at dksX8_readIs_4 3 rfl rfl)
theorem dX8_readIs_86 : decode cX8_readIs 86 = .ok (.iconst 5, 1) := dk_8 (dk_at dksX8_readIs_4 4 rfl rfl)
theorem dX8_readIs_87 : decode cX8_readIs 87 = .ok (.iadd, 1) := dk_96 (dk_at dksX8_readIs_4 5 rfl rfl)
theorem dX8_readIs_88 : decode cX8_readIs 88 = .ok (.iaload, 1) := dk_46 (dk_at dksX8_readIs_4 6 rfl rfl)
theorem dX8_readIs_89 : decode cX8_readIs 89 = .ok (.goto 5, 3) := dk_167 0 5 (dk_at dksX8_readIs_4 7 rfl rfl)
theorem dX8_readIs_92 : decode cX8_readIs 92 = .ok (.bipush (-2), 2) := dk_16 254 (dk_at dksX8_readIs_4 10 rfl rfl)
theorem dX8_readIs_94 : decode cX8_readIs 94 = .ok (.ireturn, 1) := dk_172 (dk_at dksX8_readIs_4 12 rfl rfl)
theorem dX8_readIs_95 : decode cX8_readIs 95 = .ok (.aload_n 0, 1) := dk_42 (dk_at dksX8_readIs_4 13 rfl rfl)
theorem dX8_readIs_96 : decode cX8_readIs 96 = .ok (.getfield 7, 3) := dk_180 0 7 (dk_at dksX8_readIs_4 14 rfl rfl)
theorem dX8_readIs_99 : decode cX8_readIs 99 = .ok (.iload_n 3, 1) := dk_29 (dk_at dksX8_readIs_4 17 rfl rfl)
theorem dX8_readIs_100 : decode cX8_readIs 100 = .ok (.iaload, 1) := dk_46 (dk_at dksX8_readIs_4 18 rfl rfl)
theorem dX8_readIs_101 : decode cX8_readIs 101 = .ok (.ireturn, 1) := dk_172 (dk_at dksX8_readIs_4 19 rfl rfl)
theorem dX8_readIs_102 : decode cX8_readIs 102 = .ok (.aload_n 0, 1) := dk_42 (dk_at dksX8_readIs_4 20 rfl rfl)
theorem dX8_readIs_103 : decode cX8_readIs 103 = .ok (.getfield 7, 3) := dk_180 0 7 (dk_at dksX8_readIs_4 21 rfl rfl)
theorem dX8_readIs_106 : decode cX8_readIs 106 = .ok (.iload_n 3, 1) := dk_29 (dk_at dksX8_readIs_5 0 rfl rfl)
theorem dX8_readIs_107 : decode cX8_readIs 107 = .ok (.iconst 1, 1) := dk_4 (dk_at dksX8_readIs_5 1 rfl rfl)
theorem dX8_readIs_108 : decode cX8_readIs 108 = .ok (.iadd, 1) := dk_96 (dk_at dksX8_readIs_5 2 rfl rfl)
theorem dX8_readIs_109 : decode cX8_readIs 109 = .ok (.iaload, 1) := dk_46 (dk_at dksX8_readIs_5 3 rfl rfl)
theorem dX8_readIs_110 : decode cX8_readIs 110 = .ok (.ireturn, 1) := dk_172 (dk_at dksX8_readIs_5 4 rfl rfl)
theorem dX8_readIs_111 : decode cX8_readIs 111 = .ok (.iconst (-1), 1) := dk_2 (dk_at dksX8_readIs_5 5 rfl rfl)
theorem dX8_readIs_112 : decode cX8_readIs 112 = .ok (.ireturn, 1) := dk_172 (dk_at dksX8_readIs_5 6 rfl rfl)
abbrev cX8_broken : ByteArray := prog_18_method_130_code
def yX8_broken : MethodName := ⟨RX8, "broken", "(I)I"⟩
def dkwX8_broken_4 : List UInt8 := [167, 255, 198, 132, 3, 1, 167, 255, 183, 28, 172]
abbrev dktX8_broken_4 : List UInt8 := dkwX8_broken_4 ++ []
def dkwX8_broken_3 : List UInt8 := [182, 0, 105, 153, 0, 17, 42, 29, 21, 4, 182, 1, 241, 154, 0, 7, 28, 4, 96, 61, 132, 4, 1]
abbrev dktX8_broken_3 : List UInt8 := dkwX8_broken_3 ++ dktX8_broken_4
def dkwX8_broken_2 : List UInt8 := [42, 29, 21, 4, 182, 1, 238, 154, 0, 37, 167, 0, 30, 42, 29, 182, 0, 105, 153, 0, 26, 42, 21, 4]
abbrev dktX8_broken_2 : List UInt8 := dkwX8_broken_2 ++ dktX8_broken_3
def dkwX8_broken_1 : List UInt8 := [3, 61, 3, 62, 29, 16, 7, 162, 0, 73, 3, 54, 4, 21, 4, 29, 162, 0, 58, 27, 4, 160, 0, 16]
abbrev dktX8_broken_1 : List UInt8 := dkwX8_broken_1 ++ dktX8_broken_2
def dkwX8_broken_0 : List UInt8 := [27, 3, 5, 184, 0, 93, 154, 0, 5, 2, 172, 27, 154, 0, 12, 42, 180, 0, 7, 17, 43, 128, 46, 172]
abbrev dktX8_broken_0 : List UInt8 := dkwX8_broken_0 ++ dktX8_broken_1
theorem dksX8_broken_0 : cX8_broken.data.toList.drop 0 = dktX8_broken_0 := by decide +kernel
theorem dksX8_broken_1 : cX8_broken.data.toList.drop 24 = dktX8_broken_1 := dk_seg dksX8_broken_0 24 rfl rfl
theorem dksX8_broken_2 : cX8_broken.data.toList.drop 48 = dktX8_broken_2 := dk_seg dksX8_broken_1 24 rfl rfl
theorem dksX8_broken_3 : cX8_broken.data.toList.drop 72 = dktX8_broken_3 := dk_seg dksX8_broken_2 24 rfl rfl
theorem dksX8_broken_4 : cX8_broken.data.toList.drop 95 = dktX8_broken_4 := dk_seg dksX8_broken_3 23 rfl rfl
theorem dX8_broken_0 : decode cX8_broken 0 = .ok (.iload_n 1, 1) := dk_27 (dk_at dksX8_broken_0 0 rfl rfl)
theorem dX8_broken_1 : decode cX8_broken 1 = .ok (.iconst 0, 1) := dk_3 (dk_at dksX8_broken_0 1 rfl rfl)
theorem dX8_broken_2 : decode cX8_broken 2 = .ok (.iconst 2, 1) := dk_5 (dk_at dksX8_broken_0 2 rfl rfl)
theorem dX8_broken_3 : decode cX8_broken 3 = .ok (.invokestatic 93, 3) := dk_184 0 93 (dk_at dksX8_broken_0 3 rfl rfl)
theorem dX8_broken_6 : decode cX8_broken 6 = .ok (.ifCond .ne 5, 3) := dk_154 0 5 (dk_at dksX8_broken_0 6 rfl rfl)
theorem dX8_broken_9 : decode cX8_broken 9 = .ok (.iconst (-1), 1) := dk_2 (dk_at dksX8_broken_0 9 rfl rfl)
theorem dX8_broken_10 : decode cX8_broken 10 = .ok (.ireturn, 1) := dk_172 (dk_at dksX8_broken_0 10 rfl rfl)
theorem dX8_broken_11 : decode cX8_broken 11 = .ok (.iload_n 1, 1) := dk_27 (dk_at dksX8_broken_0 11 rfl rfl)
theorem dX8_broken_12 : decode cX8_broken 12 = .ok (.ifCond .ne 12, 3) := dk_154 0 12 (dk_at dksX8_broken_0 12 rfl rfl)
theorem dX8_broken_15 : decode cX8_broken 15 = .ok (.aload_n 0, 1) := dk_42 (dk_at dksX8_broken_0 15 rfl rfl)
theorem dX8_broken_16 : decode cX8_broken 16 = .ok (.getfield 7, 3) := dk_180 0 7 (dk_at dksX8_broken_0 16 rfl rfl)
theorem dX8_broken_19 : decode cX8_broken 19 = .ok (.sipush 11136, 3) := dk_17 43 128 (dk_at dksX8_broken_0 19 rfl rfl)
theorem dX8_broken_22 : decode cX8_broken 22 = .ok (.iaload, 1) := dk_46 (dk_at dksX8_broken_0 22 rfl rfl)
theorem dX8_broken_23 : decode cX8_broken 23 = .ok (.ireturn, 1) := dk_172 (dk_at dksX8_broken_0 23 rfl rfl)
theorem dX8_broken_24 : decode cX8_broken 24 = .ok (.iconst 0, 1) := dk_3 (dk_at dksX8_broken_1 0 rfl rfl)
theorem dX8_broken_25 : decode cX8_broken 25 = .ok (.istore_n 2, 1) := dk_61 (dk_at dksX8_broken_1 1 rfl rfl)
theorem dX8_broken_26 : decode cX8_broken 26 = .ok (.iconst 0, 1) := dk_3 (dk_at dksX8_broken_1 2 rfl rfl)
theorem dX8_broken_27 : decode cX8_broken 27 = .ok (.istore_n 3, 1) := dk_62 (dk_at dksX8_broken_1 3 rfl rfl)
theorem dX8_broken_28 : decode cX8_broken 28 = .ok (.iload_n 3, 1) := dk_29 (dk_at dksX8_broken_1 4 rfl rfl)
theorem dX8_broken_29 : decode cX8_broken 29 = .ok (.bipush 7, 2) := dk_16 7 (dk_at dksX8_broken_1 5 rfl rfl)
theorem dX8_broken_31 : decode cX8_broken 31 = .ok (.if_icmp .ge 73, 3) := dk_162 0 73 (dk_at dksX8_broken_1 7 rfl rfl)
theorem dX8_broken_34 : decode cX8_broken 34 = .ok (.iconst 0, 1) := dk_3 (dk_at dksX8_broken_1 10 rfl rfl)
theorem dX8_broken_35 : decode cX8_broken 35 = .ok (.istore 4, 2) := dk_54 4 (dk_at dksX8_broken_1 11 rfl rfl)
theorem dX8_broken_37 : decode cX8_broken 37 = .ok (.iload 4, 2) := dk_21 4 (dk_at dksX8_broken_1 13 rfl rfl)
theorem dX8_broken_39 : decode cX8_broken 39 = .ok (.iload_n 3, 1) := dk_29 (dk_at dksX8_broken_1 15 rfl rfl)
theorem dX8_broken_40 : decode cX8_broken 40 = .ok (.if_icmp .ge 58, 3) := dk_162 0 58 (dk_at dksX8_broken_1 16 rfl rfl)
theorem dX8_broken_43 : decode cX8_broken 43 = .ok (.iload_n 1, 1) := dk_27 (dk_at dksX8_broken_1 19 rfl rfl)
theorem dX8_broken_44 : decode cX8_broken 44 = .ok (.iconst 1, 1) := dk_4 (dk_at dksX8_broken_1 20 rfl rfl)
theorem dX8_broken_45 : decode cX8_broken 45 = .ok (.if_icmp .ne 16, 3) := dk_160 0 16 (dk_at dksX8_broken_1 21 rfl rfl)
theorem dX8_broken_48 : decode cX8_broken 48 = .ok (.aload_n 0, 1) := dk_42 (dk_at dksX8_broken_2 0 rfl rfl)
theorem dX8_broken_49 : decode cX8_broken 49 = .ok (.iload_n 3, 1) := dk_29 (dk_at dksX8_broken_2 1 rfl rfl)
theorem dX8_broken_50 : decode cX8_broken 50 = .ok (.iload 4, 2) := dk_21 4 (dk_at dksX8_broken_2 2 rfl rfl)
theorem dX8_broken_52 : decode cX8_broken 52 = .ok (.invokevirtual 494, 3) := dk_182 1 238 (dk_at dksX8_broken_2 4 rfl rfl)
theorem dX8_broken_55 : decode cX8_broken 55 = .ok (.ifCond .ne 37, 3) := dk_154 0 37 (dk_at dksX8_broken_2 7 rfl rfl)
theorem dX8_broken_58 : decode cX8_broken 58 = .ok (.goto 30, 3) := dk_167 0 30 (dk_at dksX8_broken_2 10 rfl rfl)
theorem dX8_broken_61 : decode cX8_broken 61 = .ok (.aload_n 0, 1) := dk_42 (dk_at dksX8_broken_2 13 rfl rfl)
theorem dX8_broken_62 : decode cX8_broken 62 = .ok (.iload_n 3, 1) := dk_29 (dk_at dksX8_broken_2 14 rfl rfl)
theorem dX8_broken_63 : decode cX8_broken 63 = .ok (.invokevirtual 105, 3) := dk_182 0 105 (dk_at dksX8_broken_2 15 rfl rfl)
theorem dX8_broken_66 : decode cX8_broken 66 = .ok (.ifCond .eq 26, 3) := dk_153 0 26 (dk_at dksX8_broken_2 18 rfl rfl)
theorem dX8_broken_69 : decode cX8_broken 69 = .ok (.aload_n 0, 1) := dk_42 (dk_at dksX8_broken_2 21 rfl rfl)
theorem dX8_broken_70 : decode cX8_broken 70 = .ok (.iload 4, 2) := dk_21 4 (dk_at dksX8_broken_2 22 rfl rfl)
theorem dX8_broken_72 : decode cX8_broken 72 = .ok (.invokevirtual 105, 3) := dk_182 0 105 (dk_at dksX8_broken_3 0 rfl rfl)
theorem dX8_broken_75 : decode cX8_broken 75 = .ok (.ifCond .eq 17, 3) := dk_153 0 17 (dk_at dksX8_broken_3 3 rfl rfl)
theorem dX8_broken_78 : decode cX8_broken 78 = .ok (.aload_n 0, 1) := dk_42 (dk_at dksX8_broken_3 6 rfl rfl)
theorem dX8_broken_79 : decode cX8_broken 79 = .ok (.iload_n 3, 1) := dk_29 (dk_at dksX8_broken_3 7 rfl rfl)
theorem dX8_broken_80 : decode cX8_broken 80 = .ok (.iload 4, 2) := dk_21 4 (dk_at dksX8_broken_3 8 rfl rfl)
theorem dX8_broken_82 : decode cX8_broken 82 = .ok (.invokevirtual 497, 3) := dk_182 1 241 (dk_at dksX8_broken_3 10 rfl rfl)
theorem dX8_broken_85 : decode cX8_broken 85 = .ok (.ifCond .ne 7, 3) := dk_154 0 7 (dk_at dksX8_broken_3 13 rfl rfl)
theorem dX8_broken_88 : decode cX8_broken 88 = .ok (.iload_n 2, 1) := dk_28 (dk_at dksX8_broken_3 16 rfl rfl)
theorem dX8_broken_89 : decode cX8_broken 89 = .ok (.iconst 1, 1) := dk_4 (dk_at dksX8_broken_3 17 rfl rfl)
theorem dX8_broken_90 : decode cX8_broken 90 = .ok (.iadd, 1) := dk_96 (dk_at dksX8_broken_3 18 rfl rfl)
theorem dX8_broken_91 : decode cX8_broken 91 = .ok (.istore_n 2, 1) := dk_61 (dk_at dksX8_broken_3 19 rfl rfl)
theorem dX8_broken_92 : decode cX8_broken 92 = .ok (.iinc 4 1, 3) := dk_132 4 1 (dk_at dksX8_broken_3 20 rfl rfl)
theorem dX8_broken_95 : decode cX8_broken 95 = .ok (.goto (-58), 3) := dk_167 255 198 (dk_at dksX8_broken_4 0 rfl rfl)
theorem dX8_broken_98 : decode cX8_broken 98 = .ok (.iinc 3 1, 3) := dk_132 3 1 (dk_at dksX8_broken_4 3 rfl rfl)
theorem dX8_broken_101 : decode cX8_broken 101 = .ok (.goto (-73), 3) := dk_167 255 183 (dk_at dksX8_broken_4 6 rfl rfl)
theorem dX8_broken_104 : decode cX8_broken 104 = .ok (.iload_n 2, 1) := dk_28 (dk_at dksX8_broken_4 9 rfl rfl)
theorem dX8_broken_105 : decode cX8_broken 105 = .ok (.ireturn, 1) := dk_172 (dk_at dksX8_broken_4 10 rfl rfl)
abbrev cX8_areMatched : ByteArray := prog_18_method_128_code
def yX8_areMatched : MethodName := ⟨RX8, "areMatched", "(II)Z"⟩
def dkwX8_areMatched_3 : List UInt8 := [21, 4, 182, 1, 235, 154, 0, 5, 3, 172, 132, 4, 255, 167, 255, 189, 4, 172]
abbrev dktX8_areMatched_3 : List UInt8 := dkwX8_areMatched_3 ++ []
def dkwX8_areMatched_2 : List UInt8 := [42, 28, 21, 4, 182, 0, 137, 160, 0, 7, 4, 167, 0, 4, 3, 62, 29, 153, 0, 16, 42, 27, 28]
abbrev dktX8_areMatched_2 : List UInt8 := dkwX8_areMatched_2 ++ dktX8_areMatched_3
def dkwX8_areMatched_1 : List UInt8 := [153, 0, 63, 42, 28, 21, 4, 182, 1, 67, 153, 0, 53, 29, 154, 0, 20, 42, 27, 21, 4, 182, 0, 137]
abbrev dktX8_areMatched_1 : List UInt8 := dkwX8_areMatched_1 ++ dktX8_areMatched_2
def dkwX8_areMatched_0 : List UInt8 := [3, 62, 42, 27, 182, 0, 108, 42, 28, 182, 0, 108, 184, 0, 115, 54, 4, 42, 27, 21, 4, 182, 1, 67]
abbrev dktX8_areMatched_0 : List UInt8 := dkwX8_areMatched_0 ++ dktX8_areMatched_1
theorem dksX8_areMatched_0 : cX8_areMatched.data.toList.drop 0 = dktX8_areMatched_0 := by decide +kernel
theorem dksX8_areMatched_1 : cX8_areMatched.data.toList.drop 24 = dktX8_areMatched_1 := dk_seg dksX8_areMatched_0 24 rfl rfl
theorem dksX8_areMatched_2 : cX8_areMatched.data.toList.drop 48 = dktX8_areMatched_2 := dk_seg dksX8_areMatched_1 24 rfl rfl
theorem dksX8_areMatched_3 : cX8_areMatched.data.toList.drop 71 = dktX8_areMatched_3 := dk_seg dksX8_areMatched_2 23 rfl rfl
theorem dX8_areMatched_0 : decode cX8_areMatched 0 = .ok (.iconst 0, 1) := dk_3 (dk_at dksX8_areMatched_0 0 rfl rfl)
theorem dX8_areMatched_1 : decode cX8_areMatched 1 = .ok (.istore_n 3, 1) := dk_62 (dk_at dksX8_areMatched_0 1 rfl rfl)
theorem dX8_areMatched_2 : decode cX8_areMatched 2 = .ok (.aload_n 0, 1) := dk_42 (dk_at dksX8_areMatched_0 2 rfl rfl)
theorem dX8_areMatched_3 : decode cX8_areMatched 3 = .ok (.iload_n 1, 1) := dk_27 (dk_at dksX8_areMatched_0 3 rfl rfl)
theorem dX8_areMatched_4 : decode cX8_areMatched 4 = .ok (.invokevirtual 108, 3) := dk_182 0 108 (dk_at dksX8_areMatched_0 4 rfl rfl)
theorem dX8_areMatched_7 : decode cX8_areMatched 7 = .ok (.aload_n 0, 1) := dk_42 (dk_at dksX8_areMatched_0 7 rfl rfl)
theorem dX8_areMatched_8 : decode cX8_areMatched 8 = .ok (.iload_n 2, 1) := dk_28 (dk_at dksX8_areMatched_0 8 rfl rfl)
theorem dX8_areMatched_9 : decode cX8_areMatched 9 = .ok (.invokevirtual 108, 3) := dk_182 0 108 (dk_at dksX8_areMatched_0 9 rfl rfl)
theorem dX8_areMatched_12 : decode cX8_areMatched 12 = .ok (.invokestatic 115, 3) := dk_184 0 115 (dk_at dksX8_areMatched_0 12 rfl rfl)
theorem dX8_areMatched_15 : decode cX8_areMatched 15 = .ok (.istore 4, 2) := dk_54 4 (dk_at dksX8_areMatched_0 15 rfl rfl)
theorem dX8_areMatched_17 : decode cX8_areMatched 17 = .ok (.aload_n 0, 1) := dk_42 (dk_at dksX8_areMatched_0 17 rfl rfl)
theorem dX8_areMatched_18 : decode cX8_areMatched 18 = .ok (.iload_n 1, 1) := dk_27 (dk_at dksX8_areMatched_0 18 rfl rfl)
theorem dX8_areMatched_19 : decode cX8_areMatched 19 = .ok (.iload 4, 2) := dk_21 4 (dk_at dksX8_areMatched_0 19 rfl rfl)
theorem dX8_areMatched_21 : decode cX8_areMatched 21 = .ok (.invokevirtual 323, 3) := dk_182 1 67 (dk_at dksX8_areMatched_0 21 rfl rfl)
theorem dX8_areMatched_24 : decode cX8_areMatched 24 = .ok (.ifCond .eq 63, 3) := dk_153 0 63 (dk_at dksX8_areMatched_1 0 rfl rfl)
theorem dX8_areMatched_27 : decode cX8_areMatched 27 = .ok (.aload_n 0, 1) := dk_42 (dk_at dksX8_areMatched_1 3 rfl rfl)
theorem dX8_areMatched_28 : decode cX8_areMatched 28 = .ok (.iload_n 2, 1) := dk_28 (dk_at dksX8_areMatched_1 4 rfl rfl)
theorem dX8_areMatched_29 : decode cX8_areMatched 29 = .ok (.iload 4, 2) := dk_21 4 (dk_at dksX8_areMatched_1 5 rfl rfl)
theorem dX8_areMatched_31 : decode cX8_areMatched 31 = .ok (.invokevirtual 323, 3) := dk_182 1 67 (dk_at dksX8_areMatched_1 7 rfl rfl)
theorem dX8_areMatched_34 : decode cX8_areMatched 34 = .ok (.ifCond .eq 53, 3) := dk_153 0 53 (dk_at dksX8_areMatched_1 10 rfl rfl)
theorem dX8_areMatched_37 : decode cX8_areMatched 37 = .ok (.iload_n 3, 1) := dk_29 (dk_at dksX8_areMatched_1 13 rfl rfl)
theorem dX8_areMatched_38 : decode cX8_areMatched 38 = .ok (.ifCond .ne 20, 3) := dk_154 0 20 (dk_at dksX8_areMatched_1 14 rfl rfl)
theorem dX8_areMatched_41 : decode cX8_areMatched 41 = .ok (.aload_n 0, 1) := dk_42 (dk_at dksX8_areMatched_1 17 rfl rfl)
theorem dX8_areMatched_42 : decode cX8_areMatched 42 = .ok (.iload_n 1, 1) := dk_27 (dk_at dksX8_areMatched_1 18 rfl rfl)
theorem dX8_areMatched_43 : decode cX8_areMatched 43 = .ok (.iload 4, 2) := dk_21 4 (dk_at dksX8_areMatched_1 19 rfl rfl)
theorem dX8_areMatched_45 : decode cX8_areMatched 45 = .ok (.invokevirtual 137, 3) := dk_182 0 137 (dk_at dksX8_areMatched_1 21 rfl rfl)
theorem dX8_areMatched_48 : decode cX8_areMatched 48 = .ok (.aload_n 0, 1) := dk_42 (dk_at dksX8_areMatched_2 0 rfl rfl)
theorem dX8_areMatched_49 : decode cX8_areMatched 49 = .ok (.iload_n 2, 1) := dk_28 (dk_at dksX8_areMatched_2 1 rfl rfl)
theorem dX8_areMatched_50 : decode cX8_areMatched 50 = .ok (.iload 4, 2) := dk_21 4 (dk_at dksX8_areMatched_2 2 rfl rfl)
theorem dX8_areMatched_52 : decode cX8_areMatched 52 = .ok (.invokevirtual 137, 3) := dk_182 0 137 (dk_at dksX8_areMatched_2 4 rfl rfl)
theorem dX8_areMatched_55 : decode cX8_areMatched 55 = .ok (.if_icmp .ne 7, 3) := dk_160 0 7 (dk_at dksX8_areMatched_2 7 rfl rfl)
theorem dX8_areMatched_58 : decode cX8_areMatched 58 = .ok (.iconst 1, 1) := dk_4 (dk_at dksX8_areMatched_2 10 rfl rfl)
theorem dX8_areMatched_59 : decode cX8_areMatched 59 = .ok (.goto 4, 3) := dk_167 0 4 (dk_at dksX8_areMatched_2 11 rfl rfl)
theorem dX8_areMatched_62 : decode cX8_areMatched 62 = .ok (.iconst 0, 1) := dk_3 (dk_at dksX8_areMatched_2 14 rfl rfl)
theorem dX8_areMatched_63 : decode cX8_areMatched 63 = .ok (.istore_n 3, 1) := dk_62 (dk_at dksX8_areMatched_2 15 rfl rfl)
theorem dX8_areMatched_64 : decode cX8_areMatched 64 = .ok (.iload_n 3, 1) := dk_29 (dk_at dksX8_areMatched_2 16 rfl rfl)
theorem dX8_areMatched_65 : decode cX8_areMatched 65 = .ok (.ifCond .eq 16, 3) := dk_153 0 16 (dk_at dksX8_areMatched_2 17 rfl rfl)
theorem dX8_areMatched_68 : decode cX8_areMatched 68 = .ok (.aload_n 0, 1) := dk_42 (dk_at dksX8_areMatched_2 20 rfl rfl)
theorem dX8_areMatched_69 : decode cX8_areMatched 69 = .ok (.iload_n 1, 1) := dk_27 (dk_at dksX8_areMatched_2 21 rfl rfl)
theorem dX8_areMatched_70 : decode cX8_areMatched 70 = .ok (.iload_n 2, 1) := dk_28 (dk_at dksX8_areMatched_2 22 rfl rfl)
theorem dX8_areMatched_71 : decode cX8_areMatched 71 = .ok (.iload 4, 2) := dk_21 4 (dk_at dksX8_areMatched_3 0 rfl rfl)
theorem dX8_areMatched_73 : decode cX8_areMatched 73 = .ok (.invokevirtual 491, 3) := dk_182 1 235 (dk_at dksX8_areMatched_3 2 rfl rfl)
theorem dX8_areMatched_76 : decode cX8_areMatched 76 = .ok (.ifCond .ne 5, 3) := dk_154 0 5 (dk_at dksX8_areMatched_3 5 rfl rfl)
theorem dX8_areMatched_79 : decode cX8_areMatched 79 = .ok (.iconst 0, 1) := dk_3 (dk_at dksX8_areMatched_3 8 rfl rfl)
theorem dX8_areMatched_80 : decode cX8_areMatched 80 = .ok (.ireturn, 1) := dk_172 (dk_at dksX8_areMatched_3 9 rfl rfl)
theorem dX8_areMatched_81 : decode cX8_areMatched 81 = .ok (.iinc 4 (-1), 3) := dk_132 4 255 (dk_at dksX8_areMatched_3 10 rfl rfl)
theorem dX8_areMatched_84 : decode cX8_areMatched 84 = .ok (.goto (-67), 3) := dk_167 255 189 (dk_at dksX8_areMatched_3 13 rfl rfl)
theorem dX8_areMatched_87 : decode cX8_areMatched 87 = .ok (.iconst 1, 1) := dk_4 (dk_at dksX8_areMatched_3 16 rfl rfl)
theorem dX8_areMatched_88 : decode cX8_areMatched 88 = .ok (.ireturn, 1) := dk_172 (dk_at dksX8_areMatched_3 17 rfl rfl)
abbrev cX8_areSame : ByteArray := prog_18_method_127_code
def yX8_areSame : MethodName := ⟨RX8, "areSame", "(III)Z"⟩
def dkwX8_areSame_2 : List UInt8 := [4, 172]
abbrev dktX8_areSame_2 : List UInt8 := dkwX8_areSame_2 ++ []
def dkwX8_areSame_1 : List UInt8 := [180, 0, 7, 42, 28, 29, 182, 0, 112, 21, 4, 96, 46, 159, 0, 5, 3, 172, 132, 4, 1, 167, 255, 214]
abbrev dktX8_areSame_1 : List UInt8 := dkwX8_areSame_1 ++ dktX8_areSame_2
def dkwX8_areSame_0 : List UInt8 := [3, 54, 4, 21, 4, 7, 162, 0, 42, 42, 180, 0, 7, 42, 27, 29, 182, 0, 112, 21, 4, 96, 46, 42]
abbrev dktX8_areSame_0 : List UInt8 := dkwX8_areSame_0 ++ dktX8_areSame_1
theorem dksX8_areSame_0 : cX8_areSame.data.toList.drop 0 = dktX8_areSame_0 := by decide +kernel
theorem dksX8_areSame_1 : cX8_areSame.data.toList.drop 24 = dktX8_areSame_1 := dk_seg dksX8_areSame_0 24 rfl rfl
theorem dksX8_areSame_2 : cX8_areSame.data.toList.drop 48 = dktX8_areSame_2 := dk_seg dksX8_areSame_1 24 rfl rfl
theorem dX8_areSame_0 : decode cX8_areSame 0 = .ok (.iconst 0, 1) := dk_3 (dk_at dksX8_areSame_0 0 rfl rfl)
theorem dX8_areSame_1 : decode cX8_areSame 1 = .ok (.istore 4, 2) := dk_54 4 (dk_at dksX8_areSame_0 1 rfl rfl)
theorem dX8_areSame_3 : decode cX8_areSame 3 = .ok (.iload 4, 2) := dk_21 4 (dk_at dksX8_areSame_0 3 rfl rfl)
theorem dX8_areSame_5 : decode cX8_areSame 5 = .ok (.iconst 4, 1) := dk_7 (dk_at dksX8_areSame_0 5 rfl rfl)
theorem dX8_areSame_6 : decode cX8_areSame 6 = .ok (.if_icmp .ge 42, 3) := dk_162 0 42 (dk_at dksX8_areSame_0 6 rfl rfl)
theorem dX8_areSame_9 : decode cX8_areSame 9 = .ok (.aload_n 0, 1) := dk_42 (dk_at dksX8_areSame_0 9 rfl rfl)
theorem dX8_areSame_10 : decode cX8_areSame 10 = .ok (.getfield 7, 3) := dk_180 0 7 (dk_at dksX8_areSame_0 10 rfl rfl)
theorem dX8_areSame_13 : decode cX8_areSame 13 = .ok (.aload_n 0, 1) := dk_42 (dk_at dksX8_areSame_0 13 rfl rfl)
theorem dX8_areSame_14 : decode cX8_areSame 14 = .ok (.iload_n 1, 1) := dk_27 (dk_at dksX8_areSame_0 14 rfl rfl)
theorem dX8_areSame_15 : decode cX8_areSame 15 = .ok (.iload_n 3, 1) := dk_29 (dk_at dksX8_areSame_0 15 rfl rfl)
theorem dX8_areSame_16 : decode cX8_areSame 16 = .ok (.invokevirtual 112, 3) := dk_182 0 112 (dk_at dksX8_areSame_0 16 rfl rfl)
theorem dX8_areSame_19 : decode cX8_areSame 19 = .ok (.iload 4, 2) := dk_21 4 (dk_at dksX8_areSame_0 19 rfl rfl)
theorem dX8_areSame_21 : decode cX8_areSame 21 = .ok (.iadd, 1) := dk_96 (dk_at dksX8_areSame_0 21 rfl rfl)
theorem dX8_areSame_22 : decode cX8_areSame 22 = .ok (.iaload, 1) := dk_46 (dk_at dksX8_areSame_0 22 rfl rfl)
theorem dX8_areSame_23 : decode cX8_areSame 23 = .ok (.aload_n 0, 1) := dk_42 (dk_at dksX8_areSame_0 23 rfl rfl)
theorem dX8_areSame_24 : decode cX8_areSame 24 = .ok (.getfield 7, 3) := dk_180 0 7 (dk_at dksX8_areSame_1 0 rfl rfl)
theorem dX8_areSame_27 : decode cX8_areSame 27 = .ok (.aload_n 0, 1) := dk_42 (dk_at dksX8_areSame_1 3 rfl rfl)
theorem dX8_areSame_28 : decode cX8_areSame 28 = .ok (.iload_n 2, 1) := dk_28 (dk_at dksX8_areSame_1 4 rfl rfl)
theorem dX8_areSame_29 : decode cX8_areSame 29 = .ok (.iload_n 3, 1) := dk_29 (dk_at dksX8_areSame_1 5 rfl rfl)
theorem dX8_areSame_30 : decode cX8_areSame 30 = .ok (.invokevirtual 112, 3) := dk_182 0 112 (dk_at dksX8_areSame_1 6 rfl rfl)
theorem dX8_areSame_33 : decode cX8_areSame 33 = .ok (.iload 4, 2) := dk_21 4 (dk_at dksX8_areSame_1 9 rfl rfl)
theorem dX8_areSame_35 : decode cX8_areSame 35 = .ok (.iadd, 1) := dk_96 (dk_at dksX8_areSame_1 11 rfl rfl)
theorem dX8_areSame_36 : decode cX8_areSame 36 = .ok (.iaload, 1) := dk_46 (dk_at dksX8_areSame_1 12 rfl rfl)
theorem dX8_areSame_37 : decode cX8_areSame 37 = .ok (.if_icmp .eq 5, 3) := dk_159 0 5 (dk_at dksX8_areSame_1 13 rfl rfl)
theorem dX8_areSame_40 : decode cX8_areSame 40 = .ok (.iconst 0, 1) := dk_3 (dk_at dksX8_areSame_1 16 rfl rfl)
theorem dX8_areSame_41 : decode cX8_areSame 41 = .ok (.ireturn, 1) := dk_172 (dk_at dksX8_areSame_1 17 rfl rfl)
theorem dX8_areSame_42 : decode cX8_areSame 42 = .ok (.iinc 4 1, 3) := dk_132 4 1 (dk_at dksX8_areSame_1 18 rfl rfl)
theorem dX8_areSame_45 : decode cX8_areSame 45 = .ok (.goto (-42), 3) := dk_167 255 214 (dk_at dksX8_areSame_1 21 rfl rfl)
theorem dX8_areSame_48 : decode cX8_areSame 48 = .ok (.iconst 1, 1) := dk_4 (dk_at dksX8_areSame_2 0 rfl rfl)
theorem dX8_areSame_49 : decode cX8_areSame 49 = .ok (.ireturn, 1) := dk_172 (dk_at dksX8_areSame_2 1 rfl rfl)
abbrev cX8_areAlike : ByteArray := prog_18_method_129_code
def yX8_areAlike : MethodName := ⟨RX8, "areAlike", "(II)Z"⟩
def dkwX8_areAlike_2 : List UInt8 := [3, 172, 132, 3, 1, 167, 255, 224, 4, 172]
abbrev dktX8_areAlike_2 : List UInt8 := dkwX8_areAlike_2 ++ []
def dkwX8_areAlike_1 : List UInt8 := [162, 0, 32, 42, 27, 16, 15, 29, 96, 182, 0, 101, 42, 28, 16, 15, 29, 96, 182, 0, 101, 159, 0, 5]
abbrev dktX8_areAlike_1 : List UInt8 := dkwX8_areAlike_1 ++ dktX8_areAlike_2
def dkwX8_areAlike_0 : List UInt8 := [42, 27, 16, 9, 182, 0, 101, 42, 28, 16, 9, 182, 0, 101, 159, 0, 5, 4, 172, 3, 62, 29, 16, 8]
abbrev dktX8_areAlike_0 : List UInt8 := dkwX8_areAlike_0 ++ dktX8_areAlike_1
theorem dksX8_areAlike_0 : cX8_areAlike.data.toList.drop 0 = dktX8_areAlike_0 := by decide +kernel
theorem dksX8_areAlike_1 : cX8_areAlike.data.toList.drop 24 = dktX8_areAlike_1 := dk_seg dksX8_areAlike_0 24 rfl rfl
theorem dksX8_areAlike_2 : cX8_areAlike.data.toList.drop 48 = dktX8_areAlike_2 := dk_seg dksX8_areAlike_1 24 rfl rfl
theorem dX8_areAlike_0 : decode cX8_areAlike 0 = .ok (.aload_n 0, 1) := dk_42 (dk_at dksX8_areAlike_0 0 rfl rfl)
theorem dX8_areAlike_1 : decode cX8_areAlike 1 = .ok (.iload_n 1, 1) := dk_27 (dk_at dksX8_areAlike_0 1 rfl rfl)
theorem dX8_areAlike_2 : decode cX8_areAlike 2 = .ok (.bipush 9, 2) := dk_16 9 (dk_at dksX8_areAlike_0 2 rfl rfl)
theorem dX8_areAlike_4 : decode cX8_areAlike 4 = .ok (.invokevirtual 101, 3) := dk_182 0 101 (dk_at dksX8_areAlike_0 4 rfl rfl)
theorem dX8_areAlike_7 : decode cX8_areAlike 7 = .ok (.aload_n 0, 1) := dk_42 (dk_at dksX8_areAlike_0 7 rfl rfl)
theorem dX8_areAlike_8 : decode cX8_areAlike 8 = .ok (.iload_n 2, 1) := dk_28 (dk_at dksX8_areAlike_0 8 rfl rfl)
theorem dX8_areAlike_9 : decode cX8_areAlike 9 = .ok (.bipush 9, 2) := dk_16 9 (dk_at dksX8_areAlike_0 9 rfl rfl)
theorem dX8_areAlike_11 : decode cX8_areAlike 11 = .ok (.invokevirtual 101, 3) := dk_182 0 101 (dk_at dksX8_areAlike_0 11 rfl rfl)
theorem dX8_areAlike_14 : decode cX8_areAlike 14 = .ok (.if_icmp .eq 5, 3) := dk_159 0 5 (dk_at dksX8_areAlike_0 14 rfl rfl)
theorem dX8_areAlike_17 : decode cX8_areAlike 17 = .ok (.iconst 1, 1) := dk_4 (dk_at dksX8_areAlike_0 17 rfl rfl)
theorem dX8_areAlike_18 : decode cX8_areAlike 18 = .ok (.ireturn, 1) := dk_172 (dk_at dksX8_areAlike_0 18 rfl rfl)
theorem dX8_areAlike_19 : decode cX8_areAlike 19 = .ok (.iconst 0, 1) := dk_3 (dk_at dksX8_areAlike_0 19 rfl rfl)
theorem dX8_areAlike_20 : decode cX8_areAlike 20 = .ok (.istore_n 3, 1) := dk_62 (dk_at dksX8_areAlike_0 20 rfl rfl)
theorem dX8_areAlike_21 : decode cX8_areAlike 21 = .ok (.iload_n 3, 1) := dk_29 (dk_at dksX8_areAlike_0 21 rfl rfl)
theorem dX8_areAlike_22 : decode cX8_areAlike 22 = .ok (.bipush 8, 2) := dk_16 8 (dk_at dksX8_areAlike_0 22 rfl rfl)
theorem dX8_areAlike_24 : decode cX8_areAlike 24 = .ok (.if_icmp .ge 32, 3) := dk_162 0 32 (dk_at dksX8_areAlike_1 0 rfl rfl)
theorem dX8_areAlike_27 : decode cX8_areAlike 27 = .ok (.aload_n 0, 1) := dk_42 (dk_at dksX8_areAlike_1 3 rfl rfl)
theorem dX8_areAlike_28 : decode cX8_areAlike 28 = .ok (.iload_n 1, 1) := dk_27 (dk_at dksX8_areAlike_1 4 rfl rfl)
theorem dX8_areAlike_29 : decode cX8_areAlike 29 = .ok (.bipush 15, 2) := dk_16 15 (dk_at dksX8_areAlike_1 5 rfl rfl)
theorem dX8_areAlike_31 : decode cX8_areAlike 31 = .ok (.iload_n 3, 1) := dk_29 (dk_at dksX8_areAlike_1 7 rfl rfl)
theorem dX8_areAlike_32 : decode cX8_areAlike 32 = .ok (.iadd, 1) := dk_96 (dk_at dksX8_areAlike_1 8 rfl rfl)
theorem dX8_areAlike_33 : decode cX8_areAlike 33 = .ok (.invokevirtual 101, 3) := dk_182 0 101 (dk_at dksX8_areAlike_1 9 rfl rfl)
theorem dX8_areAlike_36 : decode cX8_areAlike 36 = .ok (.aload_n 0, 1) := dk_42 (dk_at dksX8_areAlike_1 12 rfl rfl)
theorem dX8_areAlike_37 : decode cX8_areAlike 37 = .ok (.iload_n 2, 1) := dk_28 (dk_at dksX8_areAlike_1 13 rfl rfl)
theorem dX8_areAlike_38 : decode cX8_areAlike 38 = .ok (.bipush 15, 2) := dk_16 15 (dk_at dksX8_areAlike_1 14 rfl rfl)
theorem dX8_areAlike_40 : decode cX8_areAlike 40 = .ok (.iload_n 3, 1) := dk_29 (dk_at dksX8_areAlike_1 16 rfl rfl)
theorem dX8_areAlike_41 : decode cX8_areAlike 41 = .ok (.iadd, 1) := dk_96 (dk_at dksX8_areAlike_1 17 rfl rfl)
theorem dX8_areAlike_42 : decode cX8_areAlike 42 = .ok (.invokevirtual 101, 3) := dk_182 0 101 (dk_at dksX8_areAlike_1 18 rfl rfl)
theorem dX8_areAlike_45 : decode cX8_areAlike 45 = .ok (.if_icmp .eq 5, 3) := dk_159 0 5 (dk_at dksX8_areAlike_1 21 rfl rfl)
theorem dX8_areAlike_48 : decode cX8_areAlike 48 = .ok (.iconst 0, 1) := dk_3 (dk_at dksX8_areAlike_2 0 rfl rfl)
theorem dX8_areAlike_49 : decode cX8_areAlike 49 = .ok (.ireturn, 1) := dk_172 (dk_at dksX8_areAlike_2 1 rfl rfl)
theorem dX8_areAlike_50 : decode cX8_areAlike 50 = .ok (.iinc 3 1, 3) := dk_132 3 1 (dk_at dksX8_areAlike_2 2 rfl rfl)
theorem dX8_areAlike_53 : decode cX8_areAlike 53 = .ok (.goto (-32), 3) := dk_167 255 224 (dk_at dksX8_areAlike_2 5 rfl rfl)
theorem dX8_areAlike_56 : decode cX8_areAlike 56 = .ok (.iconst 1, 1) := dk_4 (dk_at dksX8_areAlike_2 8 rfl rfl)
theorem dX8_areAlike_57 : decode cX8_areAlike 57 = .ok (.ireturn, 1) := dk_172 (dk_at dksX8_areAlike_2 9 rfl rfl)
abbrev cX8_couldWin : ByteArray := prog_18_method_132_code
def yX8_couldWin : MethodName := ⟨RX8, "couldWin", "(II)I"⟩
def dkwX8_couldWin_5 : List UInt8 := [4, 167, 0, 4, 3, 172]
abbrev dktX8_couldWin_5 : List UInt8 := dkwX8_couldWin_5 ++ []
def dkwX8_couldWin_4 : List UInt8 := [132, 4, 1, 167, 255, 210, 28, 4, 160, 0, 7, 29, 167, 0, 17, 42, 27, 29, 182, 1, 42, 153, 0, 7]
abbrev dktX8_couldWin_4 : List UInt8 := dkwX8_couldWin_4 ++ dktX8_couldWin_5
def dkwX8_couldWin_3 : List UInt8 := [184, 1, 30, 153, 0, 20, 42, 21, 4, 27, 182, 1, 244, 153, 0, 10, 29, 4, 21, 4, 120, 128, 62]
abbrev dktX8_couldWin_3 : List UInt8 := dkwX8_couldWin_3 ++ dktX8_couldWin_4
def dkwX8_couldWin_2 : List UInt8 := [54, 4, 21, 4, 16, 7, 162, 0, 45, 21, 4, 27, 159, 0, 33, 42, 27, 182, 1, 27, 21, 4]
abbrev dktX8_couldWin_2 : List UInt8 := dkwX8_couldWin_2 ++ dktX8_couldWin_3
def dkwX8_couldWin_1 : List UInt8 := [153, 0, 15, 42, 27, 182, 1, 27, 27, 184, 1, 30, 154, 0, 6, 16, 254, 172, 4, 27, 120, 62, 3]
abbrev dktX8_couldWin_1 : List UInt8 := dkwX8_couldWin_1 ++ dktX8_couldWin_2
def dkwX8_couldWin_0 : List UInt8 := [27, 184, 0, 97, 153, 0, 12, 28, 3, 4, 184, 0, 93, 154, 0, 5, 2, 172, 42, 27, 182, 0, 105]
abbrev dktX8_couldWin_0 : List UInt8 := dkwX8_couldWin_0 ++ dktX8_couldWin_1
theorem dksX8_couldWin_0 : cX8_couldWin.data.toList.drop 0 = dktX8_couldWin_0 := by decide +kernel
theorem dksX8_couldWin_1 : cX8_couldWin.data.toList.drop 23 = dktX8_couldWin_1 := dk_seg dksX8_couldWin_0 23 rfl rfl
theorem dksX8_couldWin_2 : cX8_couldWin.data.toList.drop 46 = dktX8_couldWin_2 := dk_seg dksX8_couldWin_1 23 rfl rfl
theorem dksX8_couldWin_3 : cX8_couldWin.data.toList.drop 68 = dktX8_couldWin_3 := dk_seg dksX8_couldWin_2 22 rfl rfl
theorem dksX8_couldWin_4 : cX8_couldWin.data.toList.drop 91 = dktX8_couldWin_4 := dk_seg dksX8_couldWin_3 23 rfl rfl
theorem dksX8_couldWin_5 : cX8_couldWin.data.toList.drop 115 = dktX8_couldWin_5 := dk_seg dksX8_couldWin_4 24 rfl rfl
theorem dX8_couldWin_0 : decode cX8_couldWin 0 = .ok (.iload_n 1, 1) := dk_27 (dk_at dksX8_couldWin_0 0 rfl rfl)
theorem dX8_couldWin_1 : decode cX8_couldWin 1 = .ok (.invokestatic 97, 3) := dk_184 0 97 (dk_at dksX8_couldWin_0 1 rfl rfl)
theorem dX8_couldWin_4 : decode cX8_couldWin 4 = .ok (.ifCond .eq 12, 3) := dk_153 0 12 (dk_at dksX8_couldWin_0 4 rfl rfl)
theorem dX8_couldWin_7 : decode cX8_couldWin 7 = .ok (.iload_n 2, 1) := dk_28 (dk_at dksX8_couldWin_0 7 rfl rfl)
theorem dX8_couldWin_8 : decode cX8_couldWin 8 = .ok (.iconst 0, 1) := dk_3 (dk_at dksX8_couldWin_0 8 rfl rfl)
theorem dX8_couldWin_9 : decode cX8_couldWin 9 = .ok (.iconst 1, 1) := dk_4 (dk_at dksX8_couldWin_0 9 rfl rfl)
theorem dX8_couldWin_10 : decode cX8_couldWin 10 = .ok (.invokestatic 93, 3) := dk_184 0 93 (dk_at dksX8_couldWin_0 10 rfl rfl)
theorem dX8_couldWin_13 : decode cX8_couldWin 13 = .ok (.ifCond .ne 5, 3) := dk_154 0 5 (dk_at dksX8_couldWin_0 13 rfl rfl)
theorem dX8_couldWin_16 : decode cX8_couldWin 16 = .ok (.iconst (-1), 1) := dk_2 (dk_at dksX8_couldWin_0 16 rfl rfl)
theorem dX8_couldWin_17 : decode cX8_couldWin 17 = .ok (.ireturn, 1) := dk_172 (dk_at dksX8_couldWin_0 17 rfl rfl)
theorem dX8_couldWin_18 : decode cX8_couldWin 18 = .ok (.aload_n 0, 1) := dk_42 (dk_at dksX8_couldWin_0 18 rfl rfl)
theorem dX8_couldWin_19 : decode cX8_couldWin 19 = .ok (.iload_n 1, 1) := dk_27 (dk_at dksX8_couldWin_0 19 rfl rfl)
theorem dX8_couldWin_20 : decode cX8_couldWin 20 = .ok (.invokevirtual 105, 3) := dk_182 0 105 (dk_at dksX8_couldWin_0 20 rfl rfl)
theorem dX8_couldWin_23 : decode cX8_couldWin 23 = .ok (.ifCond .eq 15, 3) := dk_153 0 15 (dk_at dksX8_couldWin_1 0 rfl rfl)
theorem dX8_couldWin_26 : decode cX8_couldWin 26 = .ok (.aload_n 0, 1) := dk_42 (dk_at dksX8_couldWin_1 3 rfl rfl)
theorem dX8_couldWin_27 : decode cX8_couldWin 27 = .ok (.iload_n 1, 1) := dk_27 (dk_at dksX8_couldWin_1 4 rfl rfl)
theorem dX8_couldWin_28 : decode cX8_couldWin 28 = .ok (.invokevirtual 283, 3) := dk_182 1 27 (dk_at dksX8_couldWin_1 5 rfl rfl)
theorem dX8_couldWin_31 : decode cX8_couldWin 31 = .ok (.iload_n 1, 1) := dk_27 (dk_at dksX8_couldWin_1 8 rfl rfl)
theorem dX8_couldWin_32 : decode cX8_couldWin 32 = .ok (.invokestatic 286, 3) := dk_184 1 30 (dk_at dksX8_couldWin_1 9 rfl rfl)
theorem dX8_couldWin_35 : decode cX8_couldWin 35 = .ok (.ifCond .ne 6, 3) := dk_154 0 6 (dk_at dksX8_couldWin_1 12 rfl rfl)
theorem dX8_couldWin_38 : decode cX8_couldWin 38 = .ok (.bipush (-2), 2) := dk_16 254 (dk_at dksX8_couldWin_1 15 rfl rfl)
theorem dX8_couldWin_40 : decode cX8_couldWin 40 = .ok (.ireturn, 1) := dk_172 (dk_at dksX8_couldWin_1 17 rfl rfl)
theorem dX8_couldWin_41 : decode cX8_couldWin 41 = .ok (.iconst 1, 1) := dk_4 (dk_at dksX8_couldWin_1 18 rfl rfl)
theorem dX8_couldWin_42 : decode cX8_couldWin 42 = .ok (.iload_n 1, 1) := dk_27 (dk_at dksX8_couldWin_1 19 rfl rfl)
theorem dX8_couldWin_43 : decode cX8_couldWin 43 = .ok (.ishl, 1) := dk_120 (dk_at dksX8_couldWin_1 20 rfl rfl)
theorem dX8_couldWin_44 : decode cX8_couldWin 44 = .ok (.istore_n 3, 1) := dk_62 (dk_at dksX8_couldWin_1 21 rfl rfl)
theorem dX8_couldWin_45 : decode cX8_couldWin 45 = .ok (.iconst 0, 1) := dk_3 (dk_at dksX8_couldWin_1 22 rfl rfl)
theorem dX8_couldWin_46 : decode cX8_couldWin 46 = .ok (.istore 4, 2) := dk_54 4 (dk_at dksX8_couldWin_2 0 rfl rfl)
theorem dX8_couldWin_48 : decode cX8_couldWin 48 = .ok (.iload 4, 2) := dk_21 4 (dk_at dksX8_couldWin_2 2 rfl rfl)
theorem dX8_couldWin_50 : decode cX8_couldWin 50 = .ok (.bipush 7, 2) := dk_16 7 (dk_at dksX8_couldWin_2 4 rfl rfl)
theorem dX8_couldWin_52 : decode cX8_couldWin 52 = .ok (.if_icmp .ge 45, 3) := dk_162 0 45 (dk_at dksX8_couldWin_2 6 rfl rfl)
theorem dX8_couldWin_55 : decode cX8_couldWin 55 = .ok (.iload 4, 2) := dk_21 4 (dk_at dksX8_couldWin_2 9 rfl rfl)
theorem dX8_couldWin_57 : decode cX8_couldWin 57 = .ok (.iload_n 1, 1) := dk_27 (dk_at dksX8_couldWin_2 11 rfl rfl)
theorem dX8_couldWin_58 : decode cX8_couldWin 58 = .ok (.if_icmp .eq 33, 3) := dk_159 0 33 (dk_at dksX8_couldWin_2 12 rfl rfl)
theorem dX8_couldWin_61 : decode cX8_couldWin 61 = .ok (.aload_n 0, 1) := dk_42 (dk_at dksX8_couldWin_2 15 rfl rfl)
theorem dX8_couldWin_62 : decode cX8_couldWin 62 = .ok (.iload_n 1, 1) := dk_27 (dk_at dksX8_couldWin_2 16 rfl rfl)
theorem dX8_couldWin_63 : decode cX8_couldWin 63 = .ok (.invokevirtual 283, 3) := dk_182 1 27 (dk_at dksX8_couldWin_2 17 rfl rfl)
theorem dX8_couldWin_66 : decode cX8_couldWin 66 = .ok (.iload 4, 2) := dk_21 4 (dk_at dksX8_couldWin_2 20 rfl rfl)
theorem dX8_couldWin_68 : decode cX8_couldWin 68 = .ok (.invokestatic 286, 3) := dk_184 1 30 (dk_at dksX8_couldWin_3 0 rfl rfl)
theorem dX8_couldWin_71 : decode cX8_couldWin 71 = .ok (.ifCond .eq 20, 3) := dk_153 0 20 (dk_at dksX8_couldWin_3 3 rfl rfl)
theorem dX8_couldWin_74 : decode cX8_couldWin 74 = .ok (.aload_n 0, 1) := dk_42 (dk_at dksX8_couldWin_3 6 rfl rfl)
theorem dX8_couldWin_75 : decode cX8_couldWin 75 = .ok (.iload 4, 2) := dk_21 4 (dk_at dksX8_couldWin_3 7 rfl rfl)
theorem dX8_couldWin_77 : decode cX8_couldWin 77 = .ok (.iload_n 1, 1) := dk_27 (dk_at dksX8_couldWin_3 9 rfl rfl)
theorem dX8_couldWin_78 : decode cX8_couldWin 78 = .ok (.invokevirtual 500, 3) := dk_182 1 244 (dk_at dksX8_couldWin_3 10 rfl rfl)
theorem dX8_couldWin_81 : decode cX8_couldWin 81 = .ok (.ifCond .eq 10, 3) := dk_153 0 10 (dk_at dksX8_couldWin_3 13 rfl rfl)
theorem dX8_couldWin_84 : decode cX8_couldWin 84 = .ok (.iload_n 3, 1) := dk_29 (dk_at dksX8_couldWin_3 16 rfl rfl)
theorem dX8_couldWin_85 : decode cX8_couldWin 85 = .ok (.iconst 1, 1) := dk_4 (dk_at dksX8_couldWin_3 17 rfl rfl)
theorem dX8_couldWin_86 : decode cX8_couldWin 86 = .ok (.iload 4, 2) := dk_21 4 (dk_at dksX8_couldWin_3 18 rfl rfl)
theorem dX8_couldWin_88 : decode cX8_couldWin 88 = .ok (.ishl, 1) := dk_120 (dk_at dksX8_couldWin_3 20 rfl rfl)
theorem dX8_couldWin_89 : decode cX8_couldWin 89 = .ok (.ior, 1) := dk_128 (dk_at dksX8_couldWin_3 21 rfl rfl)
theorem dX8_couldWin_90 : decode cX8_couldWin 90 = .ok (.istore_n 3, 1) := dk_62 (dk_at dksX8_couldWin_3 22 rfl rfl)
theorem dX8_couldWin_91 : decode cX8_couldWin 91 = .ok (.iinc 4 1, 3) := dk_132 4 1 (dk_at dksX8_couldWin_4 0 rfl rfl)
theorem dX8_couldWin_94 : decode cX8_couldWin 94 = .ok (.goto (-46), 3) := dk_167 255 210 (dk_at dksX8_couldWin_4 3 rfl rfl)
theorem dX8_couldWin_97 : decode cX8_couldWin 97 = .ok (.iload_n 2, 1) := dk_28 (dk_at dksX8_couldWin_4 6 rfl rfl)
theorem dX8_couldWin_98 : decode cX8_couldWin 98 = .ok (.iconst 1, 1) := dk_4 (dk_at dksX8_couldWin_4 7 rfl rfl)
theorem dX8_couldWin_99 : decode cX8_couldWin 99 = .ok (.if_icmp .ne 7, 3) := dk_160 0 7 (dk_at dksX8_couldWin_4 8 rfl rfl)
theorem dX8_couldWin_102 : decode cX8_couldWin 102 = .ok (.iload_n 3, 1) := dk_29 (dk_at dksX8_couldWin_4 11 rfl rfl)
theorem dX8_couldWin_103 : decode cX8_couldWin 103 = .ok (.goto 17, 3) := dk_167 0 17 (dk_at dksX8_couldWin_4 12 rfl rfl)
theorem dX8_couldWin_106 : decode cX8_couldWin 106 = .ok (.aload_n 0, 1) := dk_42 (dk_at dksX8_couldWin_4 15 rfl rfl)
theorem dX8_couldWin_107 : decode cX8_couldWin 107 = .ok (.iload_n 1, 1) := dk_27 (dk_at dksX8_couldWin_4 16 rfl rfl)
theorem dX8_couldWin_108 : decode cX8_couldWin 108 = .ok (.iload_n 3, 1) := dk_29 (dk_at dksX8_couldWin_4 17 rfl rfl)
theorem dX8_couldWin_109 : decode cX8_couldWin 109 = .ok (.invokevirtual 298, 3) := dk_182 1 42 (dk_at dksX8_couldWin_4 18 rfl rfl)
theorem dX8_couldWin_112 : decode cX8_couldWin 112 = .ok (.ifCond .eq 7, 3) := dk_153 0 7 (dk_at dksX8_couldWin_4 21 rfl rfl)
theorem dX8_couldWin_115 : decode cX8_couldWin 115 = .ok (.iconst 1, 1) := dk_4 (dk_at dksX8_couldWin_5 0 rfl rfl)
theorem dX8_couldWin_116 : decode cX8_couldWin 116 = .ok (.goto 4, 3) := dk_167 0 4 (dk_at dksX8_couldWin_5 1 rfl rfl)
theorem dX8_couldWin_119 : decode cX8_couldWin 119 = .ok (.iconst 0, 1) := dk_3 (dk_at dksX8_couldWin_5 4 rfl rfl)
theorem dX8_couldWin_120 : decode cX8_couldWin 120 = .ok (.ireturn, 1) := dk_172 (dk_at dksX8_couldWin_5 5 rfl rfl)
abbrev cX8_wouldGrant : ByteArray := prog_18_method_131_code
def yX8_wouldGrant : MethodName := ⟨RX8, "wouldGrant", "(II)Z"⟩
def dkwX8_wouldGrant_4 : List UInt8 := [182, 0, 108, 182, 0, 137, 182, 1, 112, 153, 0, 7, 4, 167, 0, 4, 3, 172]
abbrev dktX8_wouldGrant_4 : List UInt8 := dkwX8_wouldGrant_4 ++ []
def dkwX8_wouldGrant_3 : List UInt8 := [167, 0, 4, 3, 54, 4, 21, 4, 153, 0, 30, 42, 27, 42, 28, 182, 0, 108, 42, 28, 42, 28]
abbrev dktX8_wouldGrant_3 : List UInt8 := dkwX8_wouldGrant_3 ++ dktX8_wouldGrant_4
def dkwX8_wouldGrant_2 : List UInt8 := [161, 0, 23, 42, 27, 5, 182, 0, 101, 2, 159, 0, 13, 42, 27, 5, 182, 0, 101, 28, 160, 0, 7, 4]
abbrev dktX8_wouldGrant_2 : List UInt8 := dkwX8_wouldGrant_2 ++ dktX8_wouldGrant_3
def dkwX8_wouldGrant_1 : List UInt8 := [153, 0, 13, 42, 27, 4, 182, 0, 101, 29, 164, 0, 5, 3, 172, 42, 27, 4, 182, 0, 101, 29]
abbrev dktX8_wouldGrant_1 : List UInt8 := dkwX8_wouldGrant_1 ++ dktX8_wouldGrant_2
def dkwX8_wouldGrant_0 : List UInt8 := [42, 28, 4, 182, 0, 101, 4, 96, 62, 42, 27, 182, 0, 105, 153, 0, 22, 42, 27, 28, 182, 1, 91]
abbrev dktX8_wouldGrant_0 : List UInt8 := dkwX8_wouldGrant_0 ++ dktX8_wouldGrant_1
theorem dksX8_wouldGrant_0 : cX8_wouldGrant.data.toList.drop 0 = dktX8_wouldGrant_0 := by decide +kernel
theorem dksX8_wouldGrant_1 : cX8_wouldGrant.data.toList.drop 23 = dktX8_wouldGrant_1 := dk_seg dksX8_wouldGrant_0 23 rfl rfl
theorem dksX8_wouldGrant_2 : cX8_wouldGrant.data.toList.drop 45 = dktX8_wouldGrant_2 := dk_seg dksX8_wouldGrant_1 22 rfl rfl
theorem dksX8_wouldGrant_3 : cX8_wouldGrant.data.toList.drop 69 = dktX8_wouldGrant_3 := dk_seg dksX8_wouldGrant_2 24 rfl rfl
theorem dksX8_wouldGrant_4 : cX8_wouldGrant.data.toList.drop 91 = dktX8_wouldGrant_4 := dk_seg dksX8_wouldGrant_3 22 rfl rfl
theorem dX8_wouldGrant_0 : decode cX8_wouldGrant 0 = .ok (.aload_n 0, 1) := dk_42 (dk_at dksX8_wouldGrant_0 0 rfl rfl)
theorem dX8_wouldGrant_1 : decode cX8_wouldGrant 1 = .ok (.iload_n 2, 1) := dk_28 (dk_at dksX8_wouldGrant_0 1 rfl rfl)
theorem dX8_wouldGrant_2 : decode cX8_wouldGrant 2 = .ok (.iconst 1, 1) := dk_4 (dk_at dksX8_wouldGrant_0 2 rfl rfl)
theorem dX8_wouldGrant_3 : decode cX8_wouldGrant 3 = .ok (.invokevirtual 101, 3) := dk_182 0 101 (dk_at dksX8_wouldGrant_0 3 rfl rfl)
theorem dX8_wouldGrant_6 : decode cX8_wouldGrant 6 = .ok (.iconst 1, 1) := dk_4 (dk_at dksX8_wouldGrant_0 6 rfl rfl)
theorem dX8_wouldGrant_7 : decode cX8_wouldGrant 7 = .ok (.iadd, 1) := dk_96 (dk_at dksX8_wouldGrant_0 7 rfl rfl)
theorem dX8_wouldGrant_8 : decode cX8_wouldGrant 8 = .ok (.istore_n 3, 1) := dk_62 (dk_at dksX8_wouldGrant_0 8 rfl rfl)
theorem dX8_wouldGrant_9 : decode cX8_wouldGrant 9 = .ok (.aload_n 0, 1) := dk_42 (dk_at dksX8_wouldGrant_0 9 rfl rfl)
theorem dX8_wouldGrant_10 : decode cX8_wouldGrant 10 = .ok (.iload_n 1, 1) := dk_27 (dk_at dksX8_wouldGrant_0 10 rfl rfl)
theorem dX8_wouldGrant_11 : decode cX8_wouldGrant 11 = .ok (.invokevirtual 105, 3) := dk_182 0 105 (dk_at dksX8_wouldGrant_0 11 rfl rfl)
theorem dX8_wouldGrant_14 : decode cX8_wouldGrant 14 = .ok (.ifCond .eq 22, 3) := dk_153 0 22 (dk_at dksX8_wouldGrant_0 14 rfl rfl)
theorem dX8_wouldGrant_17 : decode cX8_wouldGrant 17 = .ok (.aload_n 0, 1) := dk_42 (dk_at dksX8_wouldGrant_0 17 rfl rfl)
theorem dX8_wouldGrant_18 : decode cX8_wouldGrant 18 = .ok (.iload_n 1, 1) := dk_27 (dk_at dksX8_wouldGrant_0 18 rfl rfl)
theorem dX8_wouldGrant_19 : decode cX8_wouldGrant 19 = .ok (.iload_n 2, 1) := dk_28 (dk_at dksX8_wouldGrant_0 19 rfl rfl)
theorem dX8_wouldGrant_20 : decode cX8_wouldGrant 20 = .ok (.invokevirtual 347, 3) := dk_182 1 91 (dk_at dksX8_wouldGrant_0 20 rfl rfl)
theorem dX8_wouldGrant_23 : decode cX8_wouldGrant 23 = .ok (.ifCond .eq 13, 3) := dk_153 0 13 (dk_at dksX8_wouldGrant_1 0 rfl rfl)
theorem dX8_wouldGrant_26 : decode cX8_wouldGrant 26 = .ok (.aload_n 0, 1) := dk_42 (dk_at dksX8_wouldGrant_1 3 rfl rfl)
theorem dX8_wouldGrant_27 : decode cX8_wouldGrant 27 = .ok (.iload_n 1, 1) := dk_27 (dk_at dksX8_wouldGrant_1 4 rfl rfl)
theorem dX8_wouldGrant_28 : decode cX8_wouldGrant 28 = .ok (.iconst 1, 1) := dk_4 (dk_at dksX8_wouldGrant_1 5 rfl rfl)
theorem dX8_wouldGrant_29 : decode cX8_wouldGrant 29 = .ok (.invokevirtual 101, 3) := dk_182 0 101 (dk_at dksX8_wouldGrant_1 6 rfl rfl)
theorem dX8_wouldGrant_32 : decode cX8_wouldGrant 32 = .ok (.iload_n 3, 1) := dk_29 (dk_at dksX8_wouldGrant_1 9 rfl rfl)
theorem dX8_wouldGrant_33 : decode cX8_wouldGrant 33 = .ok (.if_icmp .le 5, 3) := dk_164 0 5 (dk_at dksX8_wouldGrant_1 10 rfl rfl)
theorem dX8_wouldGrant_36 : decode cX8_wouldGrant 36 = .ok (.iconst 0, 1) := dk_3 (dk_at dksX8_wouldGrant_1 13 rfl rfl)
theorem dX8_wouldGrant_37 : decode cX8_wouldGrant 37 = .ok (.ireturn, 1) := dk_172 (dk_at dksX8_wouldGrant_1 14 rfl rfl)
theorem dX8_wouldGrant_38 : decode cX8_wouldGrant 38 = .ok (.aload_n 0, 1) := dk_42 (dk_at dksX8_wouldGrant_1 15 rfl rfl)
theorem dX8_wouldGrant_39 : decode cX8_wouldGrant 39 = .ok (.iload_n 1, 1) := dk_27 (dk_at dksX8_wouldGrant_1 16 rfl rfl)
theorem dX8_wouldGrant_40 : decode cX8_wouldGrant 40 = .ok (.iconst 1, 1) := dk_4 (dk_at dksX8_wouldGrant_1 17 rfl rfl)
theorem dX8_wouldGrant_41 : decode cX8_wouldGrant 41 = .ok (.invokevirtual 101, 3) := dk_182 0 101 (dk_at dksX8_wouldGrant_1 18 rfl rfl)
theorem dX8_wouldGrant_44 : decode cX8_wouldGrant 44 = .ok (.iload_n 3, 1) := dk_29 (dk_at dksX8_wouldGrant_1 21 rfl rfl)
theorem dX8_wouldGrant_45 : decode cX8_wouldGrant 45 = .ok (.if_icmp .lt 23, 3) := dk_161 0 23 (dk_at dksX8_wouldGrant_2 0 rfl rfl)
theorem dX8_wouldGrant_48 : decode cX8_wouldGrant 48 = .ok (.aload_n 0, 1) := dk_42 (dk_at dksX8_wouldGrant_2 3 rfl rfl)
theorem dX8_wouldGrant_49 : decode cX8_wouldGrant 49 = .ok (.iload_n 1, 1) := dk_27 (dk_at dksX8_wouldGrant_2 4 rfl rfl)
theorem dX8_wouldGrant_50 : decode cX8_wouldGrant 50 = .ok (.iconst 2, 1) := dk_5 (dk_at dksX8_wouldGrant_2 5 rfl rfl)
theorem dX8_wouldGrant_51 : decode cX8_wouldGrant 51 = .ok (.invokevirtual 101, 3) := dk_182 0 101 (dk_at dksX8_wouldGrant_2 6 rfl rfl)
theorem dX8_wouldGrant_54 : decode cX8_wouldGrant 54 = .ok (.iconst (-1), 1) := dk_2 (dk_at dksX8_wouldGrant_2 9 rfl rfl)
theorem dX8_wouldGrant_55 : decode cX8_wouldGrant 55 = .ok (.if_icmp .eq 13, 3) := dk_159 0 13 (dk_at dksX8_wouldGrant_2 10 rfl rfl)
theorem dX8_wouldGrant_58 : decode cX8_wouldGrant 58 = .ok (.aload_n 0, 1) := dk_42 (dk_at dksX8_wouldGrant_2 13 rfl rfl)
theorem dX8_wouldGrant_59 : decode cX8_wouldGrant 59 = .ok (.iload_n 1, 1) := dk_27 (dk_at dksX8_wouldGrant_2 14 rfl rfl)
theorem dX8_wouldGrant_60 : decode cX8_wouldGrant 60 = .ok (.iconst 2, 1) := dk_5 (dk_at dksX8_wouldGrant_2 15 rfl rfl)
theorem dX8_wouldGrant_61 : decode cX8_wouldGrant 61 = .ok (.invokevirtual 101, 3) := dk_182 0 101 (dk_at dksX8_wouldGrant_2 16 rfl rfl)
theorem dX8_wouldGrant_64 : decode cX8_wouldGrant 64 = .ok (.iload_n 2, 1) := dk_28 (dk_at dksX8_wouldGrant_2 19 rfl rfl)
theorem dX8_wouldGrant_65 : decode cX8_wouldGrant 65 = .ok (.if_icmp .ne 7, 3) := dk_160 0 7 (dk_at dksX8_wouldGrant_2 20 rfl rfl)
theorem dX8_wouldGrant_68 : decode cX8_wouldGrant 68 = .ok (.iconst 1, 1) := dk_4 (dk_at dksX8_wouldGrant_2 23 rfl rfl)
theorem dX8_wouldGrant_69 : decode cX8_wouldGrant 69 = .ok (.goto 4, 3) := dk_167 0 4 (dk_at dksX8_wouldGrant_3 0 rfl rfl)
theorem dX8_wouldGrant_72 : decode cX8_wouldGrant 72 = .ok (.iconst 0, 1) := dk_3 (dk_at dksX8_wouldGrant_3 3 rfl rfl)
theorem dX8_wouldGrant_73 : decode cX8_wouldGrant 73 = .ok (.istore 4, 2) := dk_54 4 (dk_at dksX8_wouldGrant_3 4 rfl rfl)
theorem dX8_wouldGrant_75 : decode cX8_wouldGrant 75 = .ok (.iload 4, 2) := dk_21 4 (dk_at dksX8_wouldGrant_3 6 rfl rfl)
theorem dX8_wouldGrant_77 : decode cX8_wouldGrant 77 = .ok (.ifCond .eq 30, 3) := dk_153 0 30 (dk_at dksX8_wouldGrant_3 8 rfl rfl)
theorem dX8_wouldGrant_80 : decode cX8_wouldGrant 80 = .ok (.aload_n 0, 1) := dk_42 (dk_at dksX8_wouldGrant_3 11 rfl rfl)
theorem dX8_wouldGrant_81 : decode cX8_wouldGrant 81 = .ok (.iload_n 1, 1) := dk_27 (dk_at dksX8_wouldGrant_3 12 rfl rfl)
theorem dX8_wouldGrant_82 : decode cX8_wouldGrant 82 = .ok (.aload_n 0, 1) := dk_42 (dk_at dksX8_wouldGrant_3 13 rfl rfl)
theorem dX8_wouldGrant_83 : decode cX8_wouldGrant 83 = .ok (.iload_n 2, 1) := dk_28 (dk_at dksX8_wouldGrant_3 14 rfl rfl)
theorem dX8_wouldGrant_84 : decode cX8_wouldGrant 84 = .ok (.invokevirtual 108, 3) := dk_182 0 108 (dk_at dksX8_wouldGrant_3 15 rfl rfl)
theorem dX8_wouldGrant_87 : decode cX8_wouldGrant 87 = .ok (.aload_n 0, 1) := dk_42 (dk_at dksX8_wouldGrant_3 18 rfl rfl)
theorem dX8_wouldGrant_88 : decode cX8_wouldGrant 88 = .ok (.iload_n 2, 1) := dk_28 (dk_at dksX8_wouldGrant_3 19 rfl rfl)
theorem dX8_wouldGrant_89 : decode cX8_wouldGrant 89 = .ok (.aload_n 0, 1) := dk_42 (dk_at dksX8_wouldGrant_3 20 rfl rfl)
theorem dX8_wouldGrant_90 : decode cX8_wouldGrant 90 = .ok (.iload_n 2, 1) := dk_28 (dk_at dksX8_wouldGrant_3 21 rfl rfl)
theorem dX8_wouldGrant_91 : decode cX8_wouldGrant 91 = .ok (.invokevirtual 108, 3) := dk_182 0 108 (dk_at dksX8_wouldGrant_4 0 rfl rfl)
theorem dX8_wouldGrant_94 : decode cX8_wouldGrant 94 = .ok (.invokevirtual 137, 3) := dk_182 0 137 (dk_at dksX8_wouldGrant_4 3 rfl rfl)
theorem dX8_wouldGrant_97 : decode cX8_wouldGrant 97 = .ok (.invokevirtual 368, 3) := dk_182 1 112 (dk_at dksX8_wouldGrant_4 6 rfl rfl)
theorem dX8_wouldGrant_100 : decode cX8_wouldGrant 100 = .ok (.ifCond .eq 7, 3) := dk_153 0 7 (dk_at dksX8_wouldGrant_4 9 rfl rfl)
theorem dX8_wouldGrant_103 : decode cX8_wouldGrant 103 = .ok (.iconst 1, 1) := dk_4 (dk_at dksX8_wouldGrant_4 12 rfl rfl)
theorem dX8_wouldGrant_104 : decode cX8_wouldGrant 104 = .ok (.goto 4, 3) := dk_167 0 4 (dk_at dksX8_wouldGrant_4 13 rfl rfl)
theorem dX8_wouldGrant_107 : decode cX8_wouldGrant 107 = .ok (.iconst 0, 1) := dk_3 (dk_at dksX8_wouldGrant_4 16 rfl rfl)
theorem dX8_wouldGrant_108 : decode cX8_wouldGrant 108 = .ok (.ireturn, 1) := dk_172 (dk_at dksX8_wouldGrant_4 17 rfl rfl)
abbrev cX8_majority : ByteArray := prog_18_method_133_code
def yX8_majority : MethodName := ⟨RX8, "majority", "(II)I"⟩
def dkwX8_majority_1 : List UInt8 := [182, 1, 42, 153, 0, 7, 4, 167, 0, 4, 3, 172]
abbrev dktX8_majority_1 : List UInt8 := dkwX8_majority_1 ++ []
def dkwX8_majority_0 : List UInt8 := [27, 184, 0, 97, 153, 0, 13, 28, 3, 16, 127, 184, 0, 93, 154, 0, 5, 2, 172, 42, 27, 28]
abbrev dktX8_majority_0 : List UInt8 := dkwX8_majority_0 ++ dktX8_majority_1
theorem dksX8_majority_0 : cX8_majority.data.toList.drop 0 = dktX8_majority_0 := by decide +kernel
theorem dksX8_majority_1 : cX8_majority.data.toList.drop 22 = dktX8_majority_1 := dk_seg dksX8_majority_0 22 rfl rfl
theorem dX8_majority_0 : decode cX8_majority 0 = .ok (.iload_n 1, 1) := dk_27 (dk_at dksX8_majority_0 0 rfl rfl)
theorem dX8_majority_1 : decode cX8_majority 1 = .ok (.invokestatic 97, 3) := dk_184 0 97 (dk_at dksX8_majority_0 1 rfl rfl)
theorem dX8_majority_4 : decode cX8_majority 4 = .ok (.ifCond .eq 13, 3) := dk_153 0 13 (dk_at dksX8_majority_0 4 rfl rfl)
theorem dX8_majority_7 : decode cX8_majority 7 = .ok (.iload_n 2, 1) := dk_28 (dk_at dksX8_majority_0 7 rfl rfl)
theorem dX8_majority_8 : decode cX8_majority 8 = .ok (.iconst 0, 1) := dk_3 (dk_at dksX8_majority_0 8 rfl rfl)
theorem dX8_majority_9 : decode cX8_majority 9 = .ok (.bipush 127, 2) := dk_16 127 (dk_at dksX8_majority_0 9 rfl rfl)
theorem dX8_majority_11 : decode cX8_majority 11 = .ok (.invokestatic 93, 3) := dk_184 0 93 (dk_at dksX8_majority_0 11 rfl rfl)
theorem dX8_majority_14 : decode cX8_majority 14 = .ok (.ifCond .ne 5, 3) := dk_154 0 5 (dk_at dksX8_majority_0 14 rfl rfl)
theorem dX8_majority_17 : decode cX8_majority 17 = .ok (.iconst (-1), 1) := dk_2 (dk_at dksX8_majority_0 17 rfl rfl)
theorem dX8_majority_18 : decode cX8_majority 18 = .ok (.ireturn, 1) := dk_172 (dk_at dksX8_majority_0 18 rfl rfl)
theorem dX8_majority_19 : decode cX8_majority 19 = .ok (.aload_n 0, 1) := dk_42 (dk_at dksX8_majority_0 19 rfl rfl)
theorem dX8_majority_20 : decode cX8_majority 20 = .ok (.iload_n 1, 1) := dk_27 (dk_at dksX8_majority_0 20 rfl rfl)
theorem dX8_majority_21 : decode cX8_majority 21 = .ok (.iload_n 2, 1) := dk_28 (dk_at dksX8_majority_0 21 rfl rfl)
theorem dX8_majority_22 : decode cX8_majority 22 = .ok (.invokevirtual 298, 3) := dk_182 1 42 (dk_at dksX8_majority_1 0 rfl rfl)
theorem dX8_majority_25 : decode cX8_majority 25 = .ok (.ifCond .eq 7, 3) := dk_153 0 7 (dk_at dksX8_majority_1 3 rfl rfl)
theorem dX8_majority_28 : decode cX8_majority 28 = .ok (.iconst 1, 1) := dk_4 (dk_at dksX8_majority_1 6 rfl rfl)
theorem dX8_majority_29 : decode cX8_majority 29 = .ok (.goto 4, 3) := dk_167 0 4 (dk_at dksX8_majority_1 7 rfl rfl)
theorem dX8_majority_32 : decode cX8_majority 32 = .ok (.iconst 0, 1) := dk_3 (dk_at dksX8_majority_1 10 rfl rfl)
theorem dX8_majority_33 : decode cX8_majority 33 = .ok (.ireturn, 1) := dk_172 (dk_at dksX8_majority_1 11 rfl rfl)
abbrev cX8_till : ByteArray := prog_18_method_136_code
def yX8_till : MethodName := ⟨RX8, "till", "(II)I"⟩
def dkwX8_till_4 : List UInt8 := [167, 0, 5, 16, 254, 172]
abbrev dktX8_till_4 : List UInt8 := dkwX8_till_4 ++ []
def dkwX8_till_3 : List UInt8 := [3, 182, 1, 250, 54, 4, 42, 180, 0, 13, 42, 180, 0, 7, 184, 1, 228, 21, 4, 153, 0, 7, 29]
abbrev dktX8_till_3 : List UInt8 := dkwX8_till_3 ++ dktX8_till_4
def dkwX8_till_2 : List UInt8 := [154, 0, 22, 29, 27, 162, 0, 17, 42, 182, 1, 152, 153, 0, 10, 29, 4, 96, 62, 167, 255, 231, 42, 28]
abbrev dktX8_till_2 : List UInt8 := dkwX8_till_2 ++ dktX8_till_3
def dkwX8_till_1 : List UInt8 := [180, 0, 7, 42, 180, 0, 13, 184, 1, 228, 42, 3, 181, 1, 64, 3, 62, 42, 28, 3, 182, 1, 250]
abbrev dktX8_till_1 : List UInt8 := dkwX8_till_1 ++ dktX8_till_2
def dkwX8_till_0 : List UInt8 := [27, 4, 17, 0, 200, 184, 0, 93, 153, 0, 12, 28, 3, 5, 184, 0, 93, 154, 0, 5, 2, 172, 42]
abbrev dktX8_till_0 : List UInt8 := dkwX8_till_0 ++ dktX8_till_1
theorem dksX8_till_0 : cX8_till.data.toList.drop 0 = dktX8_till_0 := by decide +kernel
theorem dksX8_till_1 : cX8_till.data.toList.drop 23 = dktX8_till_1 := dk_seg dksX8_till_0 23 rfl rfl
theorem dksX8_till_2 : cX8_till.data.toList.drop 46 = dktX8_till_2 := dk_seg dksX8_till_1 23 rfl rfl
theorem dksX8_till_3 : cX8_till.data.toList.drop 70 = dktX8_till_3 := dk_seg dksX8_till_2 24 rfl rfl
theorem dksX8_till_4 : cX8_till.data.toList.drop 93 = dktX8_till_4 := dk_seg dksX8_till_3 23 rfl rfl
theorem dX8_till_0 : decode cX8_till 0 = .ok (.iload_n 1, 1) := dk_27 (dk_at dksX8_till_0 0 rfl rfl)
theorem dX8_till_1 : decode cX8_till 1 = .ok (.iconst 1, 1) := dk_4 (dk_at dksX8_till_0 1 rfl rfl)
theorem dX8_till_2 : decode cX8_till 2 = .ok (.sipush 200, 3) := dk_17 0 200 (dk_at dksX8_till_0 2 rfl rfl)
theorem dX8_till_5 : decode cX8_till 5 = .ok (.invokestatic 93, 3) := dk_184 0 93 (dk_at dksX8_till_0 5 rfl rfl)
theorem dX8_till_8 : decode cX8_till 8 = .ok (.ifCond .eq 12, 3) := dk_153 0 12 (dk_at dksX8_till_0 8 rfl rfl)
theorem dX8_till_11 : decode cX8_till 11 = .ok (.iload_n 2, 1) := dk_28 (dk_at dksX8_till_0 11 rfl rfl)
theorem dX8_till_12 : decode cX8_till 12 = .ok (.iconst 0, 1) := dk_3 (dk_at dksX8_till_0 12 rfl rfl)
theorem dX8_till_13 : decode cX8_till 13 = .ok (.iconst 2, 1) := dk_5 (dk_at dksX8_till_0 13 rfl rfl)
theorem dX8_till_14 : decode cX8_till 14 = .ok (.invokestatic 93, 3) := dk_184 0 93 (dk_at dksX8_till_0 14 rfl rfl)
theorem dX8_till_17 : decode cX8_till 17 = .ok (.ifCond .ne 5, 3) := dk_154 0 5 (dk_at dksX8_till_0 17 rfl rfl)
theorem dX8_till_20 : decode cX8_till 20 = .ok (.iconst (-1), 1) := dk_2 (dk_at dksX8_till_0 20 rfl rfl)
theorem dX8_till_21 : decode cX8_till 21 = .ok (.ireturn, 1) := dk_172 (dk_at dksX8_till_0 21 rfl rfl)
theorem dX8_till_22 : decode cX8_till 22 = .ok (.aload_n 0, 1) := dk_42 (dk_at dksX8_till_0 22 rfl rfl)
theorem dX8_till_23 : decode cX8_till 23 = .ok (.getfield 7, 3) := dk_180 0 7 (dk_at dksX8_till_1 0 rfl rfl)
theorem dX8_till_26 : decode cX8_till 26 = .ok (.aload_n 0, 1) := dk_42 (dk_at dksX8_till_1 3 rfl rfl)
theorem dX8_till_27 : decode cX8_till 27 = .ok (.getfield 13, 3) := dk_180 0 13 (dk_at dksX8_till_1 4 rfl rfl)
theorem dX8_till_30 : decode cX8_till 30 = .ok (.invokestatic 484, 3) := dk_184 1 228 (dk_at dksX8_till_1 7 rfl rfl)
theorem dX8_till_33 : decode cX8_till 33 = .ok (.aload_n 0, 1) := dk_42 (dk_at dksX8_till_1 10 rfl rfl)
theorem dX8_till_34 : decode cX8_till 34 = .ok (.iconst 0, 1) := dk_3 (dk_at dksX8_till_1 11 rfl rfl)
theorem dX8_till_35 : decode cX8_till 35 = .ok (.putfield 320, 3) := dk_181 1 64 (dk_at dksX8_till_1 12 rfl rfl)
theorem dX8_till_38 : decode cX8_till 38 = .ok (.iconst 0, 1) := dk_3 (dk_at dksX8_till_1 15 rfl rfl)
theorem dX8_till_39 : decode cX8_till 39 = .ok (.istore_n 3, 1) := dk_62 (dk_at dksX8_till_1 16 rfl rfl)
theorem dX8_till_40 : decode cX8_till 40 = .ok (.aload_n 0, 1) := dk_42 (dk_at dksX8_till_1 17 rfl rfl)
theorem dX8_till_41 : decode cX8_till 41 = .ok (.iload_n 2, 1) := dk_28 (dk_at dksX8_till_1 18 rfl rfl)
theorem dX8_till_42 : decode cX8_till 42 = .ok (.iconst 0, 1) := dk_3 (dk_at dksX8_till_1 19 rfl rfl)
theorem dX8_till_43 : decode cX8_till 43 = .ok (.invokevirtual 506, 3) := dk_182 1 250 (dk_at dksX8_till_1 20 rfl rfl)
theorem dX8_till_46 : decode cX8_till 46 = .ok (.ifCond .ne 22, 3) := dk_154 0 22 (dk_at dksX8_till_2 0 rfl rfl)
theorem dX8_till_49 : decode cX8_till 49 = .ok (.iload_n 3, 1) := dk_29 (dk_at dksX8_till_2 3 rfl rfl)
theorem dX8_till_50 : decode cX8_till 50 = .ok (.iload_n 1, 1) := dk_27 (dk_at dksX8_till_2 4 rfl rfl)
theorem dX8_till_51 : decode cX8_till 51 = .ok (.if_icmp .ge 17, 3) := dk_162 0 17 (dk_at dksX8_till_2 5 rfl rfl)
theorem dX8_till_54 : decode cX8_till 54 = .ok (.aload_n 0, 1) := dk_42 (dk_at dksX8_till_2 8 rfl rfl)
theorem dX8_till_55 : decode cX8_till 55 = .ok (.invokevirtual 408, 3) := dk_182 1 152 (dk_at dksX8_till_2 9 rfl rfl)
theorem dX8_till_58 : decode cX8_till 58 = .ok (.ifCond .eq 10, 3) := dk_153 0 10 (dk_at dksX8_till_2 12 rfl rfl)
theorem dX8_till_61 : decode cX8_till 61 = .ok (.iload_n 3, 1) := dk_29 (dk_at dksX8_till_2 15 rfl rfl)
theorem dX8_till_62 : decode cX8_till 62 = .ok (.iconst 1, 1) := dk_4 (dk_at dksX8_till_2 16 rfl rfl)
theorem dX8_till_63 : decode cX8_till 63 = .ok (.iadd, 1) := dk_96 (dk_at dksX8_till_2 17 rfl rfl)
theorem dX8_till_64 : decode cX8_till 64 = .ok (.istore_n 3, 1) := dk_62 (dk_at dksX8_till_2 18 rfl rfl)
theorem dX8_till_65 : decode cX8_till 65 = .ok (.goto (-25), 3) := dk_167 255 231 (dk_at dksX8_till_2 19 rfl rfl)
theorem dX8_till_68 : decode cX8_till 68 = .ok (.aload_n 0, 1) := dk_42 (dk_at dksX8_till_2 22 rfl rfl)
theorem dX8_till_69 : decode cX8_till 69 = .ok (.iload_n 2, 1) := dk_28 (dk_at dksX8_till_2 23 rfl rfl)
theorem dX8_till_70 : decode cX8_till 70 = .ok (.iconst 0, 1) := dk_3 (dk_at dksX8_till_3 0 rfl rfl)
theorem dX8_till_71 : decode cX8_till 71 = .ok (.invokevirtual 506, 3) := dk_182 1 250 (dk_at dksX8_till_3 1 rfl rfl)
theorem dX8_till_74 : decode cX8_till 74 = .ok (.istore 4, 2) := dk_54 4 (dk_at dksX8_till_3 4 rfl rfl)
theorem dX8_till_76 : decode cX8_till 76 = .ok (.aload_n 0, 1) := dk_42 (dk_at dksX8_till_3 6 rfl rfl)
theorem dX8_till_77 : decode cX8_till 77 = .ok (.getfield 13, 3) := dk_180 0 13 (dk_at dksX8_till_3 7 rfl rfl)
theorem dX8_till_80 : decode cX8_till 80 = .ok (.aload_n 0, 1) := dk_42 (dk_at dksX8_till_3 10 rfl rfl)
theorem dX8_till_81 : decode cX8_till 81 = .ok (.getfield 7, 3) := dk_180 0 7 (dk_at dksX8_till_3 11 rfl rfl)
theorem dX8_till_84 : decode cX8_till 84 = .ok (.invokestatic 484, 3) := dk_184 1 228 (dk_at dksX8_till_3 14 rfl rfl)
theorem dX8_till_87 : decode cX8_till 87 = .ok (.iload 4, 2) := dk_21 4 (dk_at dksX8_till_3 17 rfl rfl)
theorem dX8_till_89 : decode cX8_till 89 = .ok (.ifCond .eq 7, 3) := dk_153 0 7 (dk_at dksX8_till_3 19 rfl rfl)
theorem dX8_till_92 : decode cX8_till 92 = .ok (.iload_n 3, 1) := dk_29 (dk_at dksX8_till_3 22 rfl rfl)
theorem dX8_till_93 : decode cX8_till 93 = .ok (.goto 5, 3) := dk_167 0 5 (dk_at dksX8_till_4 0 rfl rfl)
theorem dX8_till_96 : decode cX8_till 96 = .ok (.bipush (-2), 2) := dk_16 254 (dk_at dksX8_till_4 3 rfl rfl)
theorem dX8_till_98 : decode cX8_till 98 = .ok (.ireturn, 1) := dk_172 (dk_at dksX8_till_4 5 rfl rfl)
abbrev cX8_isSo : ByteArray := prog_18_method_135_code
def yX8_isSo : MethodName := ⟨RX8, "isSo", "(II)Z"⟩
def dkwX8_isSo_1 : List UInt8 := [160, 0, 19, 42, 180, 1, 64, 28, 164, 0, 7, 4, 167, 0, 11, 3, 167, 0, 7, 42, 182, 1, 247, 172]
abbrev dktX8_isSo_1 : List UInt8 := dkwX8_isSo_1 ++ []
def dkwX8_isSo_0 : List UInt8 := [27, 154, 0, 20, 42, 182, 1, 225, 16, 254, 159, 0, 7, 4, 167, 0, 32, 3, 167, 0, 28, 27, 4]
abbrev dktX8_isSo_0 : List UInt8 := dkwX8_isSo_0 ++ dktX8_isSo_1
theorem dksX8_isSo_0 : cX8_isSo.data.toList.drop 0 = dktX8_isSo_0 := by decide +kernel
theorem dksX8_isSo_1 : cX8_isSo.data.toList.drop 23 = dktX8_isSo_1 := dk_seg dksX8_isSo_0 23 rfl rfl
theorem dX8_isSo_0 : decode cX8_isSo 0 = .ok (.iload_n 1, 1) := dk_27 (dk_at dksX8_isSo_0 0 rfl rfl)
theorem dX8_isSo_1 : decode cX8_isSo 1 = .ok (.ifCond .ne 20, 3) := dk_154 0 20 (dk_at dksX8_isSo_0 1 rfl rfl)
theorem dX8_isSo_4 : decode cX8_isSo 4 = .ok (.aload_n 0, 1) := dk_42 (dk_at dksX8_isSo_0 4 rfl rfl)
theorem dX8_isSo_5 : decode cX8_isSo 5 = .ok (.invokevirtual 481, 3) := dk_182 1 225 (dk_at dksX8_isSo_0 5 rfl rfl)
theorem dX8_isSo_8 : decode cX8_isSo 8 = .ok (.bipush (-2), 2) := dk_16 254 (dk_at dksX8_isSo_0 8 rfl rfl)
theorem dX8_isSo_10 : decode cX8_isSo 10 = .ok (.if_icmp .eq 7, 3) := dk_159 0 7 (dk_at dksX8_isSo_0 10 rfl rfl)
theorem dX8_isSo_13 : decode cX8_isSo 13 = .ok (.iconst 1, 1) := dk_4 (dk_at dksX8_isSo_0 13 rfl rfl)
theorem dX8_isSo_14 : decode cX8_isSo 14 = .ok (.goto 32, 3) := dk_167 0 32 (dk_at dksX8_isSo_0 14 rfl rfl)
theorem dX8_isSo_17 : decode cX8_isSo 17 = .ok (.iconst 0, 1) := dk_3 (dk_at dksX8_isSo_0 17 rfl rfl)
theorem dX8_isSo_18 : decode cX8_isSo 18 = .ok (.goto 28, 3) := dk_167 0 28 (dk_at dksX8_isSo_0 18 rfl rfl)
theorem dX8_isSo_21 : decode cX8_isSo 21 = .ok (.iload_n 1, 1) := dk_27 (dk_at dksX8_isSo_0 21 rfl rfl)
theorem dX8_isSo_22 : decode cX8_isSo 22 = .ok (.iconst 1, 1) := dk_4 (dk_at dksX8_isSo_0 22 rfl rfl)
theorem dX8_isSo_23 : decode cX8_isSo 23 = .ok (.if_icmp .ne 19, 3) := dk_160 0 19 (dk_at dksX8_isSo_1 0 rfl rfl)
theorem dX8_isSo_26 : decode cX8_isSo 26 = .ok (.aload_n 0, 1) := dk_42 (dk_at dksX8_isSo_1 3 rfl rfl)
theorem dX8_isSo_27 : decode cX8_isSo 27 = .ok (.getfield 320, 3) := dk_180 1 64 (dk_at dksX8_isSo_1 4 rfl rfl)
theorem dX8_isSo_30 : decode cX8_isSo 30 = .ok (.iload_n 2, 1) := dk_28 (dk_at dksX8_isSo_1 7 rfl rfl)
theorem dX8_isSo_31 : decode cX8_isSo 31 = .ok (.if_icmp .le 7, 3) := dk_164 0 7 (dk_at dksX8_isSo_1 8 rfl rfl)
theorem dX8_isSo_34 : decode cX8_isSo 34 = .ok (.iconst 1, 1) := dk_4 (dk_at dksX8_isSo_1 11 rfl rfl)
theorem dX8_isSo_35 : decode cX8_isSo 35 = .ok (.goto 11, 3) := dk_167 0 11 (dk_at dksX8_isSo_1 12 rfl rfl)
theorem dX8_isSo_38 : decode cX8_isSo 38 = .ok (.iconst 0, 1) := dk_3 (dk_at dksX8_isSo_1 15 rfl rfl)
theorem dX8_isSo_39 : decode cX8_isSo 39 = .ok (.goto 7, 3) := dk_167 0 7 (dk_at dksX8_isSo_1 16 rfl rfl)
theorem dX8_isSo_42 : decode cX8_isSo 42 = .ok (.aload_n 0, 1) := dk_42 (dk_at dksX8_isSo_1 19 rfl rfl)
theorem dX8_isSo_43 : decode cX8_isSo 43 = .ok (.invokevirtual 503, 3) := dk_182 1 247 (dk_at dksX8_isSo_1 20 rfl rfl)
theorem dX8_isSo_46 : decode cX8_isSo 46 = .ok (.ireturn, 1) := dk_172 (dk_at dksX8_isSo_1 23 rfl rfl)
abbrev cX8_allHave : ByteArray := prog_18_method_134_code
def yX8_allHave : MethodName := ⟨RX8, "allHave", "()Z"⟩
def dkwX8_allHave_1 : List UInt8 := [180, 0, 7, 17, 43, 126, 46, 162, 0, 5, 3, 172, 132, 1, 1, 167, 255, 219, 4, 172]
abbrev dktX8_allHave_1 : List UInt8 := dkwX8_allHave_1 ++ []
def dkwX8_allHave_0 : List UInt8 := [3, 60, 27, 16, 7, 162, 0, 37, 42, 27, 182, 0, 105, 153, 0, 23, 42, 27, 16, 9, 182, 0, 101, 42]
abbrev dktX8_allHave_0 : List UInt8 := dkwX8_allHave_0 ++ dktX8_allHave_1
theorem dksX8_allHave_0 : cX8_allHave.data.toList.drop 0 = dktX8_allHave_0 := by decide +kernel
theorem dksX8_allHave_1 : cX8_allHave.data.toList.drop 24 = dktX8_allHave_1 := dk_seg dksX8_allHave_0 24 rfl rfl
theorem dX8_allHave_0 : decode cX8_allHave 0 = .ok (.iconst 0, 1) := dk_3 (dk_at dksX8_allHave_0 0 rfl rfl)
theorem dX8_allHave_1 : decode cX8_allHave 1 = .ok (.istore_n 1, 1) := dk_60 (dk_at dksX8_allHave_0 1 rfl rfl)
theorem dX8_allHave_2 : decode cX8_allHave 2 = .ok (.iload_n 1, 1) := dk_27 (dk_at dksX8_allHave_0 2 rfl rfl)
theorem dX8_allHave_3 : decode cX8_allHave 3 = .ok (.bipush 7, 2) := dk_16 7 (dk_at dksX8_allHave_0 3 rfl rfl)
theorem dX8_allHave_5 : decode cX8_allHave 5 = .ok (.if_icmp .ge 37, 3) := dk_162 0 37 (dk_at dksX8_allHave_0 5 rfl rfl)
theorem dX8_allHave_8 : decode cX8_allHave 8 = .ok (.aload_n 0, 1) := dk_42 (dk_at dksX8_allHave_0 8 rfl rfl)
theorem dX8_allHave_9 : decode cX8_allHave 9 = .ok (.iload_n 1, 1) := dk_27 (dk_at dksX8_allHave_0 9 rfl rfl)
theorem dX8_allHave_10 : decode cX8_allHave 10 = .ok (.invokevirtual 105, 3) := dk_182 0 105 (dk_at dksX8_allHave_0 10 rfl rfl)
theorem dX8_allHave_13 : decode cX8_allHave 13 = .ok (.ifCond .eq 23, 3) := dk_153 0 23 (dk_at dksX8_allHave_0 13 rfl rfl)
theorem dX8_allHave_16 : decode cX8_allHave 16 = .ok (.aload_n 0, 1) := dk_42 (dk_at dksX8_allHave_0 16 rfl rfl)
theorem dX8_allHave_17 : decode cX8_allHave 17 = .ok (.iload_n 1, 1) := dk_27 (dk_at dksX8_allHave_0 17 rfl rfl)
theorem dX8_allHave_18 : decode cX8_allHave 18 = .ok (.bipush 9, 2) := dk_16 9 (dk_at dksX8_allHave_0 18 rfl rfl)
theorem dX8_allHave_20 : decode cX8_allHave 20 = .ok (.invokevirtual 101, 3) := dk_182 0 101 (dk_at dksX8_allHave_0 20 rfl rfl)
theorem dX8_allHave_23 : decode cX8_allHave 23 = .ok (.aload_n 0, 1) := dk_42 (dk_at dksX8_allHave_0 23 rfl rfl)
theorem dX8_allHave_24 : decode cX8_allHave 24 = .ok (.getfield 7, 3) := dk_180 0 7 (dk_at dksX8_allHave_1 0 rfl rfl)
theorem dX8_allHave_27 : decode cX8_allHave 27 = .ok (.sipush 11134, 3) := dk_17 43 126 (dk_at dksX8_allHave_1 3 rfl rfl)
theorem dX8_allHave_30 : decode cX8_allHave 30 = .ok (.iaload, 1) := dk_46 (dk_at dksX8_allHave_1 6 rfl rfl)
theorem dX8_allHave_31 : decode cX8_allHave 31 = .ok (.if_icmp .ge 5, 3) := dk_162 0 5 (dk_at dksX8_allHave_1 7 rfl rfl)
theorem dX8_allHave_34 : decode cX8_allHave 34 = .ok (.iconst 0, 1) := dk_3 (dk_at dksX8_allHave_1 10 rfl rfl)
theorem dX8_allHave_35 : decode cX8_allHave 35 = .ok (.ireturn, 1) := dk_172 (dk_at dksX8_allHave_1 11 rfl rfl)
theorem dX8_allHave_36 : decode cX8_allHave 36 = .ok (.iinc 1 1, 3) := dk_132 1 1 (dk_at dksX8_allHave_1 12 rfl rfl)
theorem dX8_allHave_39 : decode cX8_allHave 39 = .ok (.goto (-37), 3) := dk_167 255 219 (dk_at dksX8_allHave_1 15 rfl rfl)
theorem dX8_allHave_42 : decode cX8_allHave 42 = .ok (.iconst 1, 1) := dk_4 (dk_at dksX8_allHave_1 18 rfl rfl)
theorem dX8_allHave_43 : decode cX8_allHave 43 = .ok (.ireturn, 1) := dk_172 (dk_at dksX8_allHave_1 19 rfl rfl)
abbrev cX8_seed : ByteArray := prog_18_method_137_code
def yX8_seed : MethodName := ⟨RX8, "seed", "(I)Z"⟩
def dkwX8_seed_0 : List UInt8 := [27, 3, 19, 1, 253, 184, 0, 93, 154, 0, 5, 3, 172, 42, 180, 0, 7, 17, 43, 124, 27, 79, 4, 172]
abbrev dktX8_seed_0 : List UInt8 := dkwX8_seed_0 ++ []
theorem dksX8_seed_0 : cX8_seed.data.toList.drop 0 = dktX8_seed_0 := by decide +kernel
theorem dX8_seed_0 : decode cX8_seed 0 = .ok (.iload_n 1, 1) := dk_27 (dk_at dksX8_seed_0 0 rfl rfl)
theorem dX8_seed_1 : decode cX8_seed 1 = .ok (.iconst 0, 1) := dk_3 (dk_at dksX8_seed_0 1 rfl rfl)
theorem dX8_seed_2 : decode cX8_seed 2 = .ok (.ldc_w 509, 3) := dk_19 1 253 (dk_at dksX8_seed_0 2 rfl rfl)
theorem dX8_seed_5 : decode cX8_seed 5 = .ok (.invokestatic 93, 3) := dk_184 0 93 (dk_at dksX8_seed_0 5 rfl rfl)
theorem dX8_seed_8 : decode cX8_seed 8 = .ok (.ifCond .ne 5, 3) := dk_154 0 5 (dk_at dksX8_seed_0 8 rfl rfl)
theorem dX8_seed_11 : decode cX8_seed 11 = .ok (.iconst 0, 1) := dk_3 (dk_at dksX8_seed_0 11 rfl rfl)
theorem dX8_seed_12 : decode cX8_seed 12 = .ok (.ireturn, 1) := dk_172 (dk_at dksX8_seed_0 12 rfl rfl)
theorem dX8_seed_13 : decode cX8_seed 13 = .ok (.aload_n 0, 1) := dk_42 (dk_at dksX8_seed_0 13 rfl rfl)
theorem dX8_seed_14 : decode cX8_seed 14 = .ok (.getfield 7, 3) := dk_180 0 7 (dk_at dksX8_seed_0 14 rfl rfl)
theorem dX8_seed_17 : decode cX8_seed 17 = .ok (.sipush 11132, 3) := dk_17 43 124 (dk_at dksX8_seed_0 17 rfl rfl)
theorem dX8_seed_20 : decode cX8_seed 20 = .ok (.iload_n 1, 1) := dk_27 (dk_at dksX8_seed_0 20 rfl rfl)
theorem dX8_seed_21 : decode cX8_seed 21 = .ok (.iastore, 1) := dk_79 (dk_at dksX8_seed_0 21 rfl rfl)
theorem dX8_seed_22 : decode cX8_seed 22 = .ok (.iconst 1, 1) := dk_4 (dk_at dksX8_seed_0 22 rfl rfl)
theorem dX8_seed_23 : decode cX8_seed 23 = .ok (.ireturn, 1) := dk_172 (dk_at dksX8_seed_0 23 rfl rfl)
abbrev cX8_keep : ByteArray := prog_18_method_138_code
def yX8_keep : MethodName := ⟨RX8, "keep", "()I"⟩
def dkwX8_keep_1 : List UInt8 := [172]
abbrev dktX8_keep_1 : List UInt8 := dkwX8_keep_1 ++ []
def dkwX8_keep_0 : List UInt8 := [42, 4, 181, 1, 254, 42, 180, 0, 7, 42, 180, 0, 16, 184, 1, 228, 42, 180, 0, 7, 17, 43, 123, 46]
abbrev dktX8_keep_0 : List UInt8 := dkwX8_keep_0 ++ dktX8_keep_1
theorem dksX8_keep_0 : cX8_keep.data.toList.drop 0 = dktX8_keep_0 := by decide +kernel
theorem dksX8_keep_1 : cX8_keep.data.toList.drop 24 = dktX8_keep_1 := dk_seg dksX8_keep_0 24 rfl rfl
theorem dX8_keep_0 : decode cX8_keep 0 = .ok (.aload_n 0, 1) := dk_42 (dk_at dksX8_keep_0 0 rfl rfl)
theorem dX8_keep_1 : decode cX8_keep 1 = .ok (.iconst 1, 1) := dk_4 (dk_at dksX8_keep_0 1 rfl rfl)
theorem dX8_keep_2 : decode cX8_keep 2 = .ok (.putfield 510, 3) := dk_181 1 254 (dk_at dksX8_keep_0 2 rfl rfl)
theorem dX8_keep_5 : decode cX8_keep 5 = .ok (.aload_n 0, 1) := dk_42 (dk_at dksX8_keep_0 5 rfl rfl)
theorem dX8_keep_6 : decode cX8_keep 6 = .ok (.getfield 7, 3) := dk_180 0 7 (dk_at dksX8_keep_0 6 rfl rfl)
theorem dX8_keep_9 : decode cX8_keep 9 = .ok (.aload_n 0, 1) := dk_42 (dk_at dksX8_keep_0 9 rfl rfl)
theorem dX8_keep_10 : decode cX8_keep 10 = .ok (.getfield 16, 3) := dk_180 0 16 (dk_at dksX8_keep_0 10 rfl rfl)
theorem dX8_keep_13 : decode cX8_keep 13 = .ok (.invokestatic 484, 3) := dk_184 1 228 (dk_at dksX8_keep_0 13 rfl rfl)
theorem dX8_keep_16 : decode cX8_keep 16 = .ok (.aload_n 0, 1) := dk_42 (dk_at dksX8_keep_0 16 rfl rfl)
theorem dX8_keep_17 : decode cX8_keep 17 = .ok (.getfield 7, 3) := dk_180 0 7 (dk_at dksX8_keep_0 17 rfl rfl)
theorem dX8_keep_20 : decode cX8_keep 20 = .ok (.sipush 11131, 3) := dk_17 43 123 (dk_at dksX8_keep_0 20 rfl rfl)
theorem dX8_keep_23 : decode cX8_keep 23 = .ok (.iaload, 1) := dk_46 (dk_at dksX8_keep_0 23 rfl rfl)
theorem dX8_keep_24 : decode cX8_keep 24 = .ok (.ireturn, 1) := dk_172 (dk_at dksX8_keep_1 0 rfl rfl)
abbrev cX8_undo : ByteArray := prog_18_method_139_code
def yX8_undo : MethodName := ⟨RX8, "undo", "()Z"⟩
def dkwX8_undo_0 : List UInt8 := [42, 180, 1, 254, 154, 0, 5, 3, 172, 42, 180, 0, 16, 42, 180, 0, 7, 184, 1, 228, 4, 172]
abbrev dktX8_undo_0 : List UInt8 := dkwX8_undo_0 ++ []
theorem dksX8_undo_0 : cX8_undo.data.toList.drop 0 = dktX8_undo_0 := by decide +kernel
theorem dX8_undo_0 : decode cX8_undo 0 = .ok (.aload_n 0, 1) := dk_42 (dk_at dksX8_undo_0 0 rfl rfl)
theorem dX8_undo_1 : decode cX8_undo 1 = .ok (.getfield 510, 3) := dk_180 1 254 (dk_at dksX8_undo_0 1 rfl rfl)
theorem dX8_undo_4 : decode cX8_undo 4 = .ok (.ifCond .ne 5, 3) := dk_154 0 5 (dk_at dksX8_undo_0 4 rfl rfl)
theorem dX8_undo_7 : decode cX8_undo 7 = .ok (.iconst 0, 1) := dk_3 (dk_at dksX8_undo_0 7 rfl rfl)
theorem dX8_undo_8 : decode cX8_undo 8 = .ok (.ireturn, 1) := dk_172 (dk_at dksX8_undo_0 8 rfl rfl)
theorem dX8_undo_9 : decode cX8_undo 9 = .ok (.aload_n 0, 1) := dk_42 (dk_at dksX8_undo_0 9 rfl rfl)
theorem dX8_undo_10 : decode cX8_undo 10 = .ok (.getfield 16, 3) := dk_180 0 16 (dk_at dksX8_undo_0 10 rfl rfl)
theorem dX8_undo_13 : decode cX8_undo 13 = .ok (.aload_n 0, 1) := dk_42 (dk_at dksX8_undo_0 13 rfl rfl)
theorem dX8_undo_14 : decode cX8_undo 14 = .ok (.getfield 7, 3) := dk_180 0 7 (dk_at dksX8_undo_0 14 rfl rfl)
theorem dX8_undo_17 : decode cX8_undo 17 = .ok (.invokestatic 484, 3) := dk_184 1 228 (dk_at dksX8_undo_0 17 rfl rfl)
theorem dX8_undo_20 : decode cX8_undo 20 = .ok (.iconst 1, 1) := dk_4 (dk_at dksX8_undo_0 20 rfl rfl)
theorem dX8_undo_21 : decode cX8_undo 21 = .ok (.ireturn, 1) := dk_172 (dk_at dksX8_undo_0 21 rfl rfl)
abbrev cX8_check : ByteArray := prog_18_method_141_code
def yX8_check : MethodName := ⟨RX8, "check", "(I)I"⟩
def dkwX8_check_3 : List UInt8 := [132, 3, 1, 167, 255, 218, 2, 172]
abbrev dktX8_check_3 : List UInt8 := dkwX8_check_3 ++ []
def dkwX8_check_2 : List UInt8 := [160, 0, 9, 17, 0, 255, 167, 0, 12, 42, 28, 16, 15, 29, 96, 182, 0, 101, 159, 0, 5, 29, 172]
abbrev dktX8_check_2 : List UInt8 := dkwX8_check_2 ++ dktX8_check_3
def dkwX8_check_1 : List UInt8 := [181, 0, 147, 42, 182, 2, 2, 61, 3, 62, 29, 27, 162, 0, 39, 42, 29, 182, 2, 5, 28, 2]
abbrev dktX8_check_1 : List UInt8 := dkwX8_check_1 ++ dktX8_check_2
def dkwX8_check_0 : List UInt8 := [27, 3, 16, 8, 184, 0, 93, 153, 0, 11, 27, 42, 180, 0, 147, 164, 0, 6, 16, 254, 172, 42, 3]
abbrev dktX8_check_0 : List UInt8 := dkwX8_check_0 ++ dktX8_check_1
theorem dksX8_check_0 : cX8_check.data.toList.drop 0 = dktX8_check_0 := by decide +kernel
theorem dksX8_check_1 : cX8_check.data.toList.drop 23 = dktX8_check_1 := dk_seg dksX8_check_0 23 rfl rfl
theorem dksX8_check_2 : cX8_check.data.toList.drop 45 = dktX8_check_2 := dk_seg dksX8_check_1 22 rfl rfl
theorem dksX8_check_3 : cX8_check.data.toList.drop 68 = dktX8_check_3 := dk_seg dksX8_check_2 23 rfl rfl
theorem dX8_check_0 : decode cX8_check 0 = .ok (.iload_n 1, 1) := dk_27 (dk_at dksX8_check_0 0 rfl rfl)
theorem dX8_check_1 : decode cX8_check 1 = .ok (.iconst 0, 1) := dk_3 (dk_at dksX8_check_0 1 rfl rfl)
theorem dX8_check_2 : decode cX8_check 2 = .ok (.bipush 8, 2) := dk_16 8 (dk_at dksX8_check_0 2 rfl rfl)
theorem dX8_check_4 : decode cX8_check 4 = .ok (.invokestatic 93, 3) := dk_184 0 93 (dk_at dksX8_check_0 4 rfl rfl)
theorem dX8_check_7 : decode cX8_check 7 = .ok (.ifCond .eq 11, 3) := dk_153 0 11 (dk_at dksX8_check_0 7 rfl rfl)
theorem dX8_check_10 : decode cX8_check 10 = .ok (.iload_n 1, 1) := dk_27 (dk_at dksX8_check_0 10 rfl rfl)
theorem dX8_check_11 : decode cX8_check 11 = .ok (.aload_n 0, 1) := dk_42 (dk_at dksX8_check_0 11 rfl rfl)
theorem dX8_check_12 : decode cX8_check 12 = .ok (.getfield 147, 3) := dk_180 0 147 (dk_at dksX8_check_0 12 rfl rfl)
theorem dX8_check_15 : decode cX8_check 15 = .ok (.if_icmp .le 6, 3) := dk_164 0 6 (dk_at dksX8_check_0 15 rfl rfl)
theorem dX8_check_18 : decode cX8_check 18 = .ok (.bipush (-2), 2) := dk_16 254 (dk_at dksX8_check_0 18 rfl rfl)
theorem dX8_check_20 : decode cX8_check 20 = .ok (.ireturn, 1) := dk_172 (dk_at dksX8_check_0 20 rfl rfl)
theorem dX8_check_21 : decode cX8_check 21 = .ok (.aload_n 0, 1) := dk_42 (dk_at dksX8_check_0 21 rfl rfl)
theorem dX8_check_22 : decode cX8_check 22 = .ok (.iconst 0, 1) := dk_3 (dk_at dksX8_check_0 22 rfl rfl)
theorem dX8_check_23 : decode cX8_check 23 = .ok (.putfield 147, 3) := dk_181 0 147 (dk_at dksX8_check_1 0 rfl rfl)
theorem dX8_check_26 : decode cX8_check 26 = .ok (.aload_n 0, 1) := dk_42 (dk_at dksX8_check_1 3 rfl rfl)
theorem dX8_check_27 : decode cX8_check 27 = .ok (.invokevirtual 514, 3) := dk_182 2 2 (dk_at dksX8_check_1 4 rfl rfl)
theorem dX8_check_30 : decode cX8_check 30 = .ok (.istore_n 2, 1) := dk_61 (dk_at dksX8_check_1 7 rfl rfl)
theorem dX8_check_31 : decode cX8_check 31 = .ok (.iconst 0, 1) := dk_3 (dk_at dksX8_check_1 8 rfl rfl)
theorem dX8_check_32 : decode cX8_check 32 = .ok (.istore_n 3, 1) := dk_62 (dk_at dksX8_check_1 9 rfl rfl)
theorem dX8_check_33 : decode cX8_check 33 = .ok (.iload_n 3, 1) := dk_29 (dk_at dksX8_check_1 10 rfl rfl)
theorem dX8_check_34 : decode cX8_check 34 = .ok (.iload_n 1, 1) := dk_27 (dk_at dksX8_check_1 11 rfl rfl)
theorem dX8_check_35 : decode cX8_check 35 = .ok (.if_icmp .ge 39, 3) := dk_162 0 39 (dk_at dksX8_check_1 12 rfl rfl)
theorem dX8_check_38 : decode cX8_check 38 = .ok (.aload_n 0, 1) := dk_42 (dk_at dksX8_check_1 15 rfl rfl)
theorem dX8_check_39 : decode cX8_check 39 = .ok (.iload_n 3, 1) := dk_29 (dk_at dksX8_check_1 16 rfl rfl)
theorem dX8_check_40 : decode cX8_check 40 = .ok (.invokevirtual 517, 3) := dk_182 2 5 (dk_at dksX8_check_1 17 rfl rfl)
theorem dX8_check_43 : decode cX8_check 43 = .ok (.iload_n 2, 1) := dk_28 (dk_at dksX8_check_1 20 rfl rfl)
theorem dX8_check_44 : decode cX8_check 44 = .ok (.iconst (-1), 1) := dk_2 (dk_at dksX8_check_1 21 rfl rfl)
theorem dX8_check_45 : decode cX8_check 45 = .ok (.if_icmp .ne 9, 3) := dk_160 0 9 (dk_at dksX8_check_2 0 rfl rfl)
theorem dX8_check_48 : decode cX8_check 48 = .ok (.sipush 255, 3) := dk_17 0 255 (dk_at dksX8_check_2 3 rfl rfl)
theorem dX8_check_51 : decode cX8_check 51 = .ok (.goto 12, 3) := dk_167 0 12 (dk_at dksX8_check_2 6 rfl rfl)
theorem dX8_check_54 : decode cX8_check 54 = .ok (.aload_n 0, 1) := dk_42 (dk_at dksX8_check_2 9 rfl rfl)
theorem dX8_check_55 : decode cX8_check 55 = .ok (.iload_n 2, 1) := dk_28 (dk_at dksX8_check_2 10 rfl rfl)
theorem dX8_check_56 : decode cX8_check 56 = .ok (.bipush 15, 2) := dk_16 15 (dk_at dksX8_check_2 11 rfl rfl)
theorem dX8_check_58 : decode cX8_check 58 = .ok (.iload_n 3, 1) := dk_29 (dk_at dksX8_check_2 13 rfl rfl)
theorem dX8_check_59 : decode cX8_check 59 = .ok (.iadd, 1) := dk_96 (dk_at dksX8_check_2 14 rfl rfl)
theorem dX8_check_60 : decode cX8_check 60 = .ok (.invokevirtual 101, 3) := dk_182 0 101 (dk_at dksX8_check_2 15 rfl rfl)
theorem dX8_check_63 : decode cX8_check 63 = .ok (.if_icmp .eq 5, 3) := dk_159 0 5 (dk_at dksX8_check_2 18 rfl rfl)
theorem dX8_check_66 : decode cX8_check 66 = .ok (.iload_n 3, 1) := dk_29 (dk_at dksX8_check_2 21 rfl rfl)
theorem dX8_check_67 : decode cX8_check 67 = .ok (.ireturn, 1) := dk_172 (dk_at dksX8_check_2 22 rfl rfl)
theorem dX8_check_68 : decode cX8_check 68 = .ok (.iinc 3 1, 3) := dk_132 3 1 (dk_at dksX8_check_3 0 rfl rfl)
theorem dX8_check_71 : decode cX8_check 71 = .ok (.goto (-38), 3) := dk_167 255 218 (dk_at dksX8_check_3 3 rfl rfl)
theorem dX8_check_74 : decode cX8_check 74 = .ok (.iconst (-1), 1) := dk_2 (dk_at dksX8_check_3 6 rfl rfl)
theorem dX8_check_75 : decode cX8_check 75 = .ok (.ireturn, 1) := dk_172 (dk_at dksX8_check_3 7 rfl rfl)
abbrev cX8_greatest : ByteArray := prog_18_method_140_code
def yX8_greatest : MethodName := ⟨RX8, "greatest", "()I"⟩
def dkwX8_greatest_2 : List UInt8 := [27, 172]
abbrev dktX8_greatest_2 : List UInt8 := dkwX8_greatest_2 ++ []
def dkwX8_greatest_1 : List UInt8 := [28, 16, 9, 182, 0, 101, 42, 27, 16, 9, 182, 0, 101, 164, 0, 5, 28, 60, 132, 2, 1, 167, 255, 215]
abbrev dktX8_greatest_1 : List UInt8 := dkwX8_greatest_1 ++ dktX8_greatest_2
def dkwX8_greatest_0 : List UInt8 := [2, 60, 3, 61, 28, 16, 7, 162, 0, 41, 42, 28, 182, 0, 105, 153, 0, 27, 27, 2, 159, 0, 20, 42]
abbrev dktX8_greatest_0 : List UInt8 := dkwX8_greatest_0 ++ dktX8_greatest_1
theorem dksX8_greatest_0 : cX8_greatest.data.toList.drop 0 = dktX8_greatest_0 := by decide +kernel
theorem dksX8_greatest_1 : cX8_greatest.data.toList.drop 24 = dktX8_greatest_1 := dk_seg dksX8_greatest_0 24 rfl rfl
theorem dksX8_greatest_2 : cX8_greatest.data.toList.drop 48 = dktX8_greatest_2 := dk_seg dksX8_greatest_1 24 rfl rfl
theorem dX8_greatest_0 : decode cX8_greatest 0 = .ok (.iconst (-1), 1) := dk_2 (dk_at dksX8_greatest_0 0 rfl rfl)
theorem dX8_greatest_1 : decode cX8_greatest 1 = .ok (.istore_n 1, 1) := dk_60 (dk_at dksX8_greatest_0 1 rfl rfl)
theorem dX8_greatest_2 : decode cX8_greatest 2 = .ok (.iconst 0, 1) := dk_3 (dk_at dksX8_greatest_0 2 rfl rfl)
theorem dX8_greatest_3 : decode cX8_greatest 3 = .ok (.istore_n 2, 1) := dk_61 (dk_at dksX8_greatest_0 3 rfl rfl)
theorem dX8_greatest_4 : decode cX8_greatest 4 = .ok (.iload_n 2, 1) := dk_28 (dk_at dksX8_greatest_0 4 rfl rfl)
theorem dX8_greatest_5 : decode cX8_greatest 5 = .ok (.bipush 7, 2) := dk_16 7 (dk_at dksX8_greatest_0 5 rfl rfl)
theorem dX8_greatest_7 : decode cX8_greatest 7 = .ok (.if_icmp .ge 41, 3) := dk_162 0 41 (dk_at dksX8_greatest_0 7 rfl rfl)
theorem dX8_greatest_10 : decode cX8_greatest 10 = .ok (.aload_n 0, 1) := dk_42 (dk_at dksX8_greatest_0 10 rfl rfl)
theorem dX8_greatest_11 : decode cX8_greatest 11 = .ok (.iload_n 2, 1) := dk_28 (dk_at dksX8_greatest_0 11 rfl rfl)
theorem dX8_greatest_12 : decode cX8_greatest 12 = .ok (.invokevirtual 105, 3) := dk_182 0 105 (dk_at dksX8_greatest_0 12 rfl rfl)
theorem dX8_greatest_15 : decode cX8_greatest 15 = .ok (.ifCond .eq 27, 3) := dk_153 0 27 (dk_at dksX8_greatest_0 15 rfl rfl)
theorem dX8_greatest_18 : decode cX8_greatest 18 = .ok (.iload_n 1, 1) := dk_27 (dk_at dksX8_greatest_0 18 rfl rfl)
theorem dX8_greatest_19 : decode cX8_greatest 19 = .ok (.iconst (-1), 1) := dk_2 (dk_at dksX8_greatest_0 19 rfl rfl)
theorem dX8_greatest_20 : decode cX8_greatest 20 = .ok (.if_icmp .eq 20, 3) := dk_159 0 20 (dk_at dksX8_greatest_0 20 rfl rfl)
theorem dX8_greatest_23 : decode cX8_greatest 23 = .ok (.aload_n 0, 1) := dk_42 (dk_at dksX8_greatest_0 23 rfl rfl)
theorem dX8_greatest_24 : decode cX8_greatest 24 = .ok (.iload_n 2, 1) := dk_28 (dk_at dksX8_greatest_1 0 rfl rfl)
theorem dX8_greatest_25 : decode cX8_greatest 25 = .ok (.bipush 9, 2) := dk_16 9 (dk_at dksX8_greatest_1 1 rfl rfl)
theorem dX8_greatest_27 : decode cX8_greatest 27 = .ok (.invokevirtual 101, 3) := dk_182 0 101 (dk_at dksX8_greatest_1 3 rfl rfl)
theorem dX8_greatest_30 : decode cX8_greatest 30 = .ok (.aload_n 0, 1) := dk_42 (dk_at dksX8_greatest_1 6 rfl rfl)
theorem dX8_greatest_31 : decode cX8_greatest 31 = .ok (.iload_n 1, 1) := dk_27 (dk_at dksX8_greatest_1 7 rfl rfl)
theorem dX8_greatest_32 : decode cX8_greatest 32 = .ok (.bipush 9, 2) := dk_16 9 (dk_at dksX8_greatest_1 8 rfl rfl)
theorem dX8_greatest_34 : decode cX8_greatest 34 = .ok (.invokevirtual 101, 3) := dk_182 0 101 (dk_at dksX8_greatest_1 10 rfl rfl)
theorem dX8_greatest_37 : decode cX8_greatest 37 = .ok (.if_icmp .le 5, 3) := dk_164 0 5 (dk_at dksX8_greatest_1 13 rfl rfl)
theorem dX8_greatest_40 : decode cX8_greatest 40 = .ok (.iload_n 2, 1) := dk_28 (dk_at dksX8_greatest_1 16 rfl rfl)
theorem dX8_greatest_41 : decode cX8_greatest 41 = .ok (.istore_n 1, 1) := dk_60 (dk_at dksX8_greatest_1 17 rfl rfl)
theorem dX8_greatest_42 : decode cX8_greatest 42 = .ok (.iinc 2 1, 3) := dk_132 2 1 (dk_at dksX8_greatest_1 18 rfl rfl)
theorem dX8_greatest_45 : decode cX8_greatest 45 = .ok (.goto (-41), 3) := dk_167 255 215 (dk_at dksX8_greatest_1 21 rfl rfl)
theorem dX8_greatest_48 : decode cX8_greatest 48 = .ok (.iload_n 1, 1) := dk_27 (dk_at dksX8_greatest_2 0 rfl rfl)
theorem dX8_greatest_49 : decode cX8_greatest 49 = .ok (.ireturn, 1) := dk_172 (dk_at dksX8_greatest_2 1 rfl rfl)
abbrev cX8_octet : ByteArray := prog_18_method_28_code
def yX8_octet : MethodName := ⟨RX8, "octet", "(I)I"⟩
def dkwX8_octet_0 : List UInt8 := [42, 180, 0, 25, 27, 51, 17, 0, 255, 126, 172]
abbrev dktX8_octet_0 : List UInt8 := dkwX8_octet_0 ++ []
theorem dksX8_octet_0 : cX8_octet.data.toList.drop 0 = dktX8_octet_0 := by decide +kernel
theorem dX8_octet_0 : decode cX8_octet 0 = .ok (.aload_n 0, 1) := dk_42 (dk_at dksX8_octet_0 0 rfl rfl)
theorem dX8_octet_1 : decode cX8_octet 1 = .ok (.getfield 25, 3) := dk_180 0 25 (dk_at dksX8_octet_0 1 rfl rfl)
theorem dX8_octet_4 : decode cX8_octet 4 = .ok (.iload_n 1, 1) := dk_27 (dk_at dksX8_octet_0 4 rfl rfl)
theorem dX8_octet_5 : decode cX8_octet 5 = .ok (.baload, 1) := dk_51 (dk_at dksX8_octet_0 5 rfl rfl)
theorem dX8_octet_6 : decode cX8_octet 6 = .ok (.sipush 255, 3) := dk_17 0 255 (dk_at dksX8_octet_0 6 rfl rfl)
theorem dX8_octet_9 : decode cX8_octet 9 = .ok (.iand, 1) := dk_126 (dk_at dksX8_octet_0 9 rfl rfl)
theorem dX8_octet_10 : decode cX8_octet 10 = .ok (.ireturn, 1) := dk_172 (dk_at dksX8_octet_0 10 rfl rfl)
abbrev cX8_count : ByteArray := prog_18_method_144_code
def yX8_count : MethodName := ⟨RX8, "count", "(I)I"⟩
def dkwX8_count_5 : List UInt8 := [182, 2, 11, 172, 2, 172]
abbrev dktX8_count_5 : List UInt8 := dkwX8_count_5 ++ []
def dkwX8_count_4 : List UInt8 := [17, 43, 124, 46, 172, 42, 180, 0, 7, 17, 43, 127, 46, 172, 42, 180, 0, 7, 17, 43, 129, 46, 172, 42]
abbrev dktX8_count_4 : List UInt8 := dkwX8_count_4 ++ dktX8_count_5
def dkwX8_count_3 : List UInt8 := [180, 0, 7, 17, 43, 126, 46, 172, 42, 180, 0, 246, 172, 42, 180, 0, 147, 172, 42, 180, 0, 7]
abbrev dktX8_count_3 : List UInt8 := dkwX8_count_3 ++ dktX8_count_4
def dkwX8_count_2 : List UInt8 := [42, 180, 0, 7, 17, 43, 123, 46, 172, 42, 182, 2, 8, 172, 42, 180, 0, 7, 17, 43, 125, 46, 172, 42]
abbrev dktX8_count_2 : List UInt8 := dkwX8_count_2 ++ dktX8_count_3
def dkwX8_count_1 : List UInt8 := [170, 0, 0, 0, 0, 0, 129, 0, 0, 0, 0, 0, 0, 0, 9, 0, 0, 0, 55, 0, 0, 0, 64, 0, 0, 0, 69, 0, 0, 0, 78, 0, 0, 0, 87, 0, 0, 0, 92, 0, 0, 0, 97, 0, 0, 0, 106, 0, 0, 0, 115, 0, 0, 0, 124]
abbrev dktX8_count_1 : List UInt8 := dkwX8_count_1 ++ dktX8_count_2
def dkwX8_count_0 : List UInt8 := [27]
abbrev dktX8_count_0 : List UInt8 := dkwX8_count_0 ++ dktX8_count_1
theorem dksX8_count_0 : cX8_count.data.toList.drop 0 = dktX8_count_0 := by decide +kernel
theorem dksX8_count_1 : cX8_count.data.toList.drop 1 = dktX8_count_1 := dk_seg dksX8_count_0 1 rfl rfl
theorem dksX8_count_2 : cX8_count.data.toList.drop 56 = dktX8_count_2 := dk_seg dksX8_count_1 55 rfl rfl
theorem dksX8_count_3 : cX8_count.data.toList.drop 80 = dktX8_count_3 := dk_seg dksX8_count_2 24 rfl rfl
theorem dksX8_count_4 : cX8_count.data.toList.drop 102 = dktX8_count_4 := dk_seg dksX8_count_3 22 rfl rfl
theorem dksX8_count_5 : cX8_count.data.toList.drop 126 = dktX8_count_5 := dk_seg dksX8_count_4 24 rfl rfl
theorem dX8_count_0 : decode cX8_count 0 = .ok (.iload_n 1, 1) := dk_27 (dk_at dksX8_count_0 0 rfl rfl)
theorem dX8_count_1 : decode cX8_count 1 = .ok (.tableswitch 129 0 9 #[55, 64, 69, 78, 87, 92, 97, 106, 115, 124], 55) := by decide +kernel
theorem dX8_count_56 : decode cX8_count 56 = .ok (.aload_n 0, 1) := dk_42 (dk_at dksX8_count_2 0 rfl rfl)
theorem dX8_count_57 : decode cX8_count 57 = .ok (.getfield 7, 3) := dk_180 0 7 (dk_at dksX8_count_2 1 rfl rfl)
theorem dX8_count_60 : decode cX8_count 60 = .ok (.sipush 11131, 3) := dk_17 43 123 (dk_at dksX8_count_2 4 rfl rfl)
theorem dX8_count_63 : decode cX8_count 63 = .ok (.iaload, 1) := dk_46 (dk_at dksX8_count_2 7 rfl rfl)
theorem dX8_count_64 : decode cX8_count 64 = .ok (.ireturn, 1) := dk_172 (dk_at dksX8_count_2 8 rfl rfl)
theorem dX8_count_65 : decode cX8_count 65 = .ok (.aload_n 0, 1) := dk_42 (dk_at dksX8_count_2 9 rfl rfl)
theorem dX8_count_66 : decode cX8_count 66 = .ok (.invokevirtual 520, 3) := dk_182 2 8 (dk_at dksX8_count_2 10 rfl rfl)
theorem dX8_count_69 : decode cX8_count 69 = .ok (.ireturn, 1) := dk_172 (dk_at dksX8_count_2 13 rfl rfl)
theorem dX8_count_70 : decode cX8_count 70 = .ok (.aload_n 0, 1) := dk_42 (dk_at dksX8_count_2 14 rfl rfl)
theorem dX8_count_71 : decode cX8_count 71 = .ok (.getfield 7, 3) := dk_180 0 7 (dk_at dksX8_count_2 15 rfl rfl)
theorem dX8_count_74 : decode cX8_count 74 = .ok (.sipush 11133, 3) := dk_17 43 125 (dk_at dksX8_count_2 18 rfl rfl)
theorem dX8_count_77 : decode cX8_count 77 = .ok (.iaload, 1) := dk_46 (dk_at dksX8_count_2 21 rfl rfl)
theorem dX8_count_78 : decode cX8_count 78 = .ok (.ireturn, 1) := dk_172 (dk_at dksX8_count_2 22 rfl rfl)
theorem dX8_count_79 : decode cX8_count 79 = .ok (.aload_n 0, 1) := dk_42 (dk_at dksX8_count_2 23 rfl rfl)
theorem dX8_count_80 : decode cX8_count 80 = .ok (.getfield 7, 3) := dk_180 0 7 (dk_at dksX8_count_3 0 rfl rfl)
theorem dX8_count_83 : decode cX8_count 83 = .ok (.sipush 11134, 3) := dk_17 43 126 (dk_at dksX8_count_3 3 rfl rfl)
theorem dX8_count_86 : decode cX8_count 86 = .ok (.iaload, 1) := dk_46 (dk_at dksX8_count_3 6 rfl rfl)
theorem dX8_count_87 : decode cX8_count 87 = .ok (.ireturn, 1) := dk_172 (dk_at dksX8_count_3 7 rfl rfl)
theorem dX8_count_88 : decode cX8_count 88 = .ok (.aload_n 0, 1) := dk_42 (dk_at dksX8_count_3 8 rfl rfl)
theorem dX8_count_89 : decode cX8_count 89 = .ok (.getfield 246, 3) := dk_180 0 246 (dk_at dksX8_count_3 9 rfl rfl)
theorem dX8_count_92 : decode cX8_count 92 = .ok (.ireturn, 1) := dk_172 (dk_at dksX8_count_3 12 rfl rfl)
theorem dX8_count_93 : decode cX8_count 93 = .ok (.aload_n 0, 1) := dk_42 (dk_at dksX8_count_3 13 rfl rfl)
theorem dX8_count_94 : decode cX8_count 94 = .ok (.getfield 147, 3) := dk_180 0 147 (dk_at dksX8_count_3 14 rfl rfl)
theorem dX8_count_97 : decode cX8_count 97 = .ok (.ireturn, 1) := dk_172 (dk_at dksX8_count_3 17 rfl rfl)
theorem dX8_count_98 : decode cX8_count 98 = .ok (.aload_n 0, 1) := dk_42 (dk_at dksX8_count_3 18 rfl rfl)
theorem dX8_count_99 : decode cX8_count 99 = .ok (.getfield 7, 3) := dk_180 0 7 (dk_at dksX8_count_3 19 rfl rfl)
theorem dX8_count_102 : decode cX8_count 102 = .ok (.sipush 11132, 3) := dk_17 43 124 (dk_at dksX8_count_4 0 rfl rfl)
theorem dX8_count_105 : decode cX8_count 105 = .ok (.iaload, 1) := dk_46 (dk_at dksX8_count_4 3 rfl rfl)
theorem dX8_count_106 : decode cX8_count 106 = .ok (.ireturn, 1) := dk_172 (dk_at dksX8_count_4 4 rfl rfl)
theorem dX8_count_107 : decode cX8_count 107 = .ok (.aload_n 0, 1) := dk_42 (dk_at dksX8_count_4 5 rfl rfl)
theorem dX8_count_108 : decode cX8_count 108 = .ok (.getfield 7, 3) := dk_180 0 7 (dk_at dksX8_count_4 6 rfl rfl)
theorem dX8_count_111 : decode cX8_count 111 = .ok (.sipush 11135, 3) := dk_17 43 127 (dk_at dksX8_count_4 9 rfl rfl)
theorem dX8_count_114 : decode cX8_count 114 = .ok (.iaload, 1) := dk_46 (dk_at dksX8_count_4 12 rfl rfl)
theorem dX8_count_115 : decode cX8_count 115 = .ok (.ireturn, 1) := dk_172 (dk_at dksX8_count_4 13 rfl rfl)
theorem dX8_count_116 : decode cX8_count 116 = .ok (.aload_n 0, 1) := dk_42 (dk_at dksX8_count_4 14 rfl rfl)
theorem dX8_count_117 : decode cX8_count 117 = .ok (.getfield 7, 3) := dk_180 0 7 (dk_at dksX8_count_4 15 rfl rfl)
theorem dX8_count_120 : decode cX8_count 120 = .ok (.sipush 11137, 3) := dk_17 43 129 (dk_at dksX8_count_4 18 rfl rfl)
theorem dX8_count_123 : decode cX8_count 123 = .ok (.iaload, 1) := dk_46 (dk_at dksX8_count_4 21 rfl rfl)
theorem dX8_count_124 : decode cX8_count 124 = .ok (.ireturn, 1) := dk_172 (dk_at dksX8_count_4 22 rfl rfl)
theorem dX8_count_125 : decode cX8_count 125 = .ok (.aload_n 0, 1) := dk_42 (dk_at dksX8_count_4 23 rfl rfl)
theorem dX8_count_126 : decode cX8_count 126 = .ok (.invokevirtual 523, 3) := dk_182 2 11 (dk_at dksX8_count_5 0 rfl rfl)
theorem dX8_count_129 : decode cX8_count 129 = .ok (.ireturn, 1) := dk_172 (dk_at dksX8_count_5 3 rfl rfl)
theorem dX8_count_130 : decode cX8_count 130 = .ok (.iconst (-1), 1) := dk_2 (dk_at dksX8_count_5 4 rfl rfl)
theorem dX8_count_131 : decode cX8_count 131 = .ok (.ireturn, 1) := dk_172 (dk_at dksX8_count_5 5 rfl rfl)
abbrev cX8_upSet : ByteArray := prog_18_method_142_code
def yX8_upSet : MethodName := ⟨RX8, "upSet", "()I"⟩
def dkwX8_upSet_1 : List UInt8 := [132, 2, 1, 167, 255, 233, 27, 172]
abbrev dktX8_upSet_1 : List UInt8 := dkwX8_upSet_1 ++ []
def dkwX8_upSet_0 : List UInt8 := [3, 60, 3, 61, 28, 16, 7, 162, 0, 23, 42, 28, 182, 0, 105, 153, 0, 9, 27, 4, 28, 120, 128, 60]
abbrev dktX8_upSet_0 : List UInt8 := dkwX8_upSet_0 ++ dktX8_upSet_1
theorem dksX8_upSet_0 : cX8_upSet.data.toList.drop 0 = dktX8_upSet_0 := by decide +kernel
theorem dksX8_upSet_1 : cX8_upSet.data.toList.drop 24 = dktX8_upSet_1 := dk_seg dksX8_upSet_0 24 rfl rfl
theorem dX8_upSet_0 : decode cX8_upSet 0 = .ok (.iconst 0, 1) := dk_3 (dk_at dksX8_upSet_0 0 rfl rfl)
theorem dX8_upSet_1 : decode cX8_upSet 1 = .ok (.istore_n 1, 1) := dk_60 (dk_at dksX8_upSet_0 1 rfl rfl)
theorem dX8_upSet_2 : decode cX8_upSet 2 = .ok (.iconst 0, 1) := dk_3 (dk_at dksX8_upSet_0 2 rfl rfl)
theorem dX8_upSet_3 : decode cX8_upSet 3 = .ok (.istore_n 2, 1) := dk_61 (dk_at dksX8_upSet_0 3 rfl rfl)
theorem dX8_upSet_4 : decode cX8_upSet 4 = .ok (.iload_n 2, 1) := dk_28 (dk_at dksX8_upSet_0 4 rfl rfl)
theorem dX8_upSet_5 : decode cX8_upSet 5 = .ok (.bipush 7, 2) := dk_16 7 (dk_at dksX8_upSet_0 5 rfl rfl)
theorem dX8_upSet_7 : decode cX8_upSet 7 = .ok (.if_icmp .ge 23, 3) := dk_162 0 23 (dk_at dksX8_upSet_0 7 rfl rfl)
theorem dX8_upSet_10 : decode cX8_upSet 10 = .ok (.aload_n 0, 1) := dk_42 (dk_at dksX8_upSet_0 10 rfl rfl)
theorem dX8_upSet_11 : decode cX8_upSet 11 = .ok (.iload_n 2, 1) := dk_28 (dk_at dksX8_upSet_0 11 rfl rfl)
theorem dX8_upSet_12 : decode cX8_upSet 12 = .ok (.invokevirtual 105, 3) := dk_182 0 105 (dk_at dksX8_upSet_0 12 rfl rfl)
theorem dX8_upSet_15 : decode cX8_upSet 15 = .ok (.ifCond .eq 9, 3) := dk_153 0 9 (dk_at dksX8_upSet_0 15 rfl rfl)
theorem dX8_upSet_18 : decode cX8_upSet 18 = .ok (.iload_n 1, 1) := dk_27 (dk_at dksX8_upSet_0 18 rfl rfl)
theorem dX8_upSet_19 : decode cX8_upSet 19 = .ok (.iconst 1, 1) := dk_4 (dk_at dksX8_upSet_0 19 rfl rfl)
theorem dX8_upSet_20 : decode cX8_upSet 20 = .ok (.iload_n 2, 1) := dk_28 (dk_at dksX8_upSet_0 20 rfl rfl)
theorem dX8_upSet_21 : decode cX8_upSet 21 = .ok (.ishl, 1) := dk_120 (dk_at dksX8_upSet_0 21 rfl rfl)
theorem dX8_upSet_22 : decode cX8_upSet 22 = .ok (.ior, 1) := dk_128 (dk_at dksX8_upSet_0 22 rfl rfl)
theorem dX8_upSet_23 : decode cX8_upSet 23 = .ok (.istore_n 1, 1) := dk_60 (dk_at dksX8_upSet_0 23 rfl rfl)
theorem dX8_upSet_24 : decode cX8_upSet 24 = .ok (.iinc 2 1, 3) := dk_132 2 1 (dk_at dksX8_upSet_1 0 rfl rfl)
theorem dX8_upSet_27 : decode cX8_upSet 27 = .ok (.goto (-23), 3) := dk_167 255 233 (dk_at dksX8_upSet_1 3 rfl rfl)
theorem dX8_upSet_30 : decode cX8_upSet 30 = .ok (.iload_n 1, 1) := dk_27 (dk_at dksX8_upSet_1 6 rfl rfl)
theorem dX8_upSet_31 : decode cX8_upSet 31 = .ok (.ireturn, 1) := dk_172 (dk_at dksX8_upSet_1 7 rfl rfl)
abbrev cX8_cutMany : ByteArray := prog_18_method_143_code
def yX8_cutMany : MethodName := ⟨RX8, "cutMany", "()I"⟩
def dkwX8_cutMany_1 : List UInt8 := [96, 60, 132, 2, 1, 167, 255, 231, 27, 5, 108, 172]
abbrev dktX8_cutMany_1 : List UInt8 := dkwX8_cutMany_1 ++ []
def dkwX8_cutMany_0 : List UInt8 := [3, 60, 3, 61, 28, 16, 7, 162, 0, 25, 27, 42, 180, 0, 7, 17, 43, 116, 28, 96, 46, 184, 0, 127]
abbrev dktX8_cutMany_0 : List UInt8 := dkwX8_cutMany_0 ++ dktX8_cutMany_1
theorem dksX8_cutMany_0 : cX8_cutMany.data.toList.drop 0 = dktX8_cutMany_0 := by decide +kernel
theorem dksX8_cutMany_1 : cX8_cutMany.data.toList.drop 24 = dktX8_cutMany_1 := dk_seg dksX8_cutMany_0 24 rfl rfl
theorem dX8_cutMany_0 : decode cX8_cutMany 0 = .ok (.iconst 0, 1) := dk_3 (dk_at dksX8_cutMany_0 0 rfl rfl)
theorem dX8_cutMany_1 : decode cX8_cutMany 1 = .ok (.istore_n 1, 1) := dk_60 (dk_at dksX8_cutMany_0 1 rfl rfl)
theorem dX8_cutMany_2 : decode cX8_cutMany 2 = .ok (.iconst 0, 1) := dk_3 (dk_at dksX8_cutMany_0 2 rfl rfl)
theorem dX8_cutMany_3 : decode cX8_cutMany 3 = .ok (.istore_n 2, 1) := dk_61 (dk_at dksX8_cutMany_0 3 rfl rfl)
theorem dX8_cutMany_4 : decode cX8_cutMany 4 = .ok (.iload_n 2, 1) := dk_28 (dk_at dksX8_cutMany_0 4 rfl rfl)
theorem dX8_cutMany_5 : decode cX8_cutMany 5 = .ok (.bipush 7, 2) := dk_16 7 (dk_at dksX8_cutMany_0 5 rfl rfl)
theorem dX8_cutMany_7 : decode cX8_cutMany 7 = .ok (.if_icmp .ge 25, 3) := dk_162 0 25 (dk_at dksX8_cutMany_0 7 rfl rfl)
theorem dX8_cutMany_10 : decode cX8_cutMany 10 = .ok (.iload_n 1, 1) := dk_27 (dk_at dksX8_cutMany_0 10 rfl rfl)
theorem dX8_cutMany_11 : decode cX8_cutMany 11 = .ok (.aload_n 0, 1) := dk_42 (dk_at dksX8_cutMany_0 11 rfl rfl)
theorem dX8_cutMany_12 : decode cX8_cutMany 12 = .ok (.getfield 7, 3) := dk_180 0 7 (dk_at dksX8_cutMany_0 12 rfl rfl)
theorem dX8_cutMany_15 : decode cX8_cutMany 15 = .ok (.sipush 11124, 3) := dk_17 43 116 (dk_at dksX8_cutMany_0 15 rfl rfl)
theorem dX8_cutMany_18 : decode cX8_cutMany 18 = .ok (.iload_n 2, 1) := dk_28 (dk_at dksX8_cutMany_0 18 rfl rfl)
theorem dX8_cutMany_19 : decode cX8_cutMany 19 = .ok (.iadd, 1) := dk_96 (dk_at dksX8_cutMany_0 19 rfl rfl)
theorem dX8_cutMany_20 : decode cX8_cutMany 20 = .ok (.iaload, 1) := dk_46 (dk_at dksX8_cutMany_0 20 rfl rfl)
theorem dX8_cutMany_21 : decode cX8_cutMany 21 = .ok (.invokestatic 127, 3) := dk_184 0 127 (dk_at dksX8_cutMany_0 21 rfl rfl)
theorem dX8_cutMany_24 : decode cX8_cutMany 24 = .ok (.iadd, 1) := dk_96 (dk_at dksX8_cutMany_1 0 rfl rfl)
theorem dX8_cutMany_25 : decode cX8_cutMany 25 = .ok (.istore_n 1, 1) := dk_60 (dk_at dksX8_cutMany_1 1 rfl rfl)
theorem dX8_cutMany_26 : decode cX8_cutMany 26 = .ok (.iinc 2 1, 3) := dk_132 2 1 (dk_at dksX8_cutMany_1 2 rfl rfl)
theorem dX8_cutMany_29 : decode cX8_cutMany 29 = .ok (.goto (-25), 3) := dk_167 255 231 (dk_at dksX8_cutMany_1 5 rfl rfl)
theorem dX8_cutMany_32 : decode cX8_cutMany 32 = .ok (.iload_n 1, 1) := dk_27 (dk_at dksX8_cutMany_1 8 rfl rfl)
theorem dX8_cutMany_33 : decode cX8_cutMany 33 = .ok (.iconst 2, 1) := dk_5 (dk_at dksX8_cutMany_1 9 rfl rfl)
theorem dX8_cutMany_34 : decode cX8_cutMany 34 = .ok (.idiv, 1) := dk_108 (dk_at dksX8_cutMany_1 10 rfl rfl)
theorem dX8_cutMany_35 : decode cX8_cutMany 35 = .ok (.ireturn, 1) := dk_172 (dk_at dksX8_cutMany_1 11 rfl rfl)
theorem q167 : (Jvm.Cond.initialized "TermLogModel") ∈ lw_all := lw_g (lw_at lw_m1 10 rfl) rfl
theorem q1363 : (Jvm.Cond.instantiable "TermLogModel" (45 : Nat)) ∈ lw_all := lw_g (lw_at lw_m6 6 rfl) rfl
theorem q1365 : (Jvm.Cond.instanceMethod ({ cls := "TermLogModel", name := "<init>", desc := "()V" } : Jvm.MethodName)) ∈ lw_all := lw_g (lw_at lw_m6 8 rfl) rfl
theorem q1366 : (Jvm.Cond.code ({ cls := "TermLogModel", name := "<init>", desc := "()V" } : Jvm.MethodName) prog_18_method_1_code (1 : Nat) (Option.none : Option Jvm.ClassFile.FieldType)) ∈ lw_all := lw_g (lw_at lw_m6 9 rfl) rfl
theorem q1367 : (Jvm.Cond.methodLink "TermLogModel" (1 : Nat) ({ cls := "java/lang/Object", name := "<init>", desc := "()V" } : Jvm.MethodName)) ∈ lw_all := lw_g (lw_at lw_m6 10 rfl) rfl
theorem q1368 : (Jvm.Cond.methodLink "TermLogModel" (89 : Nat) ({ cls := "TermLogModel", name := "founds", desc := "(I)V" } : Jvm.MethodName)) ∈ lw_all := lw_g (lw_at lw_m6 11 rfl) rfl
theorem q1369 : (Jvm.Cond.privateMethod ({ cls := "TermLogModel", name := "founds", desc := "(I)V" } : Jvm.MethodName)) ∈ lw_tbl := lw_at lw_m6 12 rfl
theorem q1370 : (Jvm.Cond.instanceMethod ({ cls := "TermLogModel", name := "founds", desc := "(I)V" } : Jvm.MethodName)) ∈ lw_all := lw_g (lw_at lw_m6 13 rfl) rfl
theorem q1371 : (Jvm.Cond.code ({ cls := "TermLogModel", name := "founds", desc := "(I)V" } : Jvm.MethodName) prog_18_method_98_code (4 : Nat) (Option.none : Option Jvm.ClassFile.FieldType)) ∈ lw_all := lw_g (lw_at lw_m6 14 rfl) rfl
theorem q1372 : (Jvm.Cond.methodLink "TermLogModel" (133 : Nat) ({ cls := "TermLogModel", name := "sets", desc := "(III)V" } : Jvm.MethodName)) ∈ lw_all := lw_g (lw_at lw_m6 15 rfl) rfl
theorem q1373 : (Jvm.Cond.privateMethod ({ cls := "TermLogModel", name := "sets", desc := "(III)V" } : Jvm.MethodName)) ∈ lw_tbl := lw_at lw_m6 16 rfl
theorem q1374 : (Jvm.Cond.instanceMethod ({ cls := "TermLogModel", name := "sets", desc := "(III)V" } : Jvm.MethodName)) ∈ lw_all := lw_g (lw_at lw_m6 17 rfl) rfl
theorem q1375 : (Jvm.Cond.code ({ cls := "TermLogModel", name := "sets", desc := "(III)V" } : Jvm.MethodName) prog_18_method_10_code (4 : Nat) (Option.none : Option Jvm.ClassFile.FieldType)) ∈ lw_all := lw_g (lw_at lw_m6 18 rfl) rfl
theorem q1376 : (Jvm.Cond.methodLink "TermLogModel" (295 : Nat) ({ cls := "TermLogModel", name := "setsTimer", desc := "(I)V" } : Jvm.MethodName)) ∈ lw_all := lw_g (lw_at lw_m6 19 rfl) rfl
theorem q1377 : (Jvm.Cond.privateMethod ({ cls := "TermLogModel", name := "setsTimer", desc := "(I)V" } : Jvm.MethodName)) ∈ lw_tbl := lw_at lw_m6 20 rfl
theorem q1378 : (Jvm.Cond.instanceMethod ({ cls := "TermLogModel", name := "setsTimer", desc := "(I)V" } : Jvm.MethodName)) ∈ lw_all := lw_g (lw_at lw_m6 21 rfl) rfl
theorem q1379 : (Jvm.Cond.code ({ cls := "TermLogModel", name := "setsTimer", desc := "(I)V" } : Jvm.MethodName) prog_18_method_56_code (3 : Nat) (Option.none : Option Jvm.ClassFile.FieldType)) ∈ lw_all := lw_g (lw_at lw_m6 22 rfl) rfl
theorem q1380 : (Jvm.Cond.methodLink "TermLogModel" (257 : Nat) ({ cls := "TermLogModel", name := "feels", desc := "(III)I" } : Jvm.MethodName)) ∈ lw_all := lw_g (lw_at lw_m6 23 rfl) rfl
theorem q1381 : (Jvm.Cond.privateMethod ({ cls := "TermLogModel", name := "feels", desc := "(III)I" } : Jvm.MethodName)) ∈ lw_tbl := lw_at lw_m6 24 rfl
theorem q1382 : (Jvm.Cond.instanceMethod ({ cls := "TermLogModel", name := "feels", desc := "(III)I" } : Jvm.MethodName)) ∈ lw_all := lw_g (lw_at lw_m6 25 rfl) rfl
theorem q1383 : (Jvm.Cond.code ({ cls := "TermLogModel", name := "feels", desc := "(III)I" } : Jvm.MethodName) prog_18_method_55_code (4 : Nat) (Option.some Jvm.ClassFile.FieldType.int)) ∈ lw_all := lw_g (lw_at lw_m6 26 rfl) rfl
theorem q1384 : (Jvm.Cond.constant "TermLogModel" (256 : Nat) (65536 : Int32)) ∈ lw_all := lw_g (lw_at lw_m6 27 rfl) rfl
theorem q1385 : (Jvm.Cond.methodLink "TermLogModel" (101 : Nat) ({ cls := "TermLogModel", name := "the", desc := "(II)I" } : Jvm.MethodName)) ∈ lw_all := lw_g (lw_at lw_m6 28 rfl) rfl
theorem q1386 : (Jvm.Cond.privateMethod ({ cls := "TermLogModel", name := "the", desc := "(II)I" } : Jvm.MethodName)) ∈ lw_tbl := lw_at lw_m6 29 rfl
theorem q1387 : (Jvm.Cond.instanceMethod ({ cls := "TermLogModel", name := "the", desc := "(II)I" } : Jvm.MethodName)) ∈ lw_all := lw_g (lw_at lw_m6 30 rfl) rfl
theorem q1388 : (Jvm.Cond.code ({ cls := "TermLogModel", name := "the", desc := "(II)I" } : Jvm.MethodName) prog_18_method_9_code (3 : Nat) (Option.some Jvm.ClassFile.FieldType.int)) ∈ lw_all := lw_g (lw_at lw_m6 31 rfl) rfl
theorem q1389 : (Jvm.Cond.methodLink "TermLogModel" (260 : Nat) ({ cls := "TermLogModel", name := "byLaw", desc := "(IIII)I" } : Jvm.MethodName)) ∈ lw_all := lw_g (lw_at lw_m6 32 rfl) rfl
theorem q1390 : (Jvm.Cond.privateMethod ({ cls := "TermLogModel", name := "byLaw", desc := "(IIII)I" } : Jvm.MethodName)) ∈ lw_tbl := lw_at lw_m6 33 rfl
theorem q1391 : (Jvm.Cond.instanceMethod ({ cls := "TermLogModel", name := "byLaw", desc := "(IIII)I" } : Jvm.MethodName)) ∈ lw_all := lw_g (lw_at lw_m6 34 rfl) rfl
theorem q1392 : (Jvm.Cond.code ({ cls := "TermLogModel", name := "byLaw", desc := "(IIII)I" } : Jvm.MethodName) prog_18_method_53_code (7 : Nat) (Option.some Jvm.ClassFile.FieldType.int)) ∈ lw_all := lw_g (lw_at lw_m6 35 rfl) rfl
theorem q1393 : (Jvm.Cond.methodLink "TermLogModel" (253 : Nat) ({ cls := "TermLogModel", name := "reckonsTo", desc := "(II)I" } : Jvm.MethodName)) ∈ lw_all := lw_g (lw_at lw_m6 36 rfl) rfl
theorem q1394 : (Jvm.Cond.privateMethod ({ cls := "TermLogModel", name := "reckonsTo", desc := "(II)I" } : Jvm.MethodName)) ∈ lw_tbl := lw_at lw_m6 37 rfl
theorem q1395 : (Jvm.Cond.instanceMethod ({ cls := "TermLogModel", name := "reckonsTo", desc := "(II)I" } : Jvm.MethodName)) ∈ lw_all := lw_g (lw_at lw_m6 38 rfl) rfl
theorem q1396 : (Jvm.Cond.code ({ cls := "TermLogModel", name := "reckonsTo", desc := "(II)I" } : Jvm.MethodName) prog_18_method_52_code (8 : Nat) (Option.some Jvm.ClassFile.FieldType.int)) ∈ lw_all := lw_g (lw_at lw_m6 39 rfl) rfl
theorem q1397 : (Jvm.Cond.constant "TermLogModel" (181 : Nat) (1048576 : Int32)) ∈ lw_all := lw_g (lw_at lw_m6 40 rfl) rfl
theorem q1398 : (Jvm.Cond.methodLink "TermLogModel" (249 : Nat) ({ cls := "TermLogModel", name := "reckon", desc := "(III)I" } : Jvm.MethodName)) ∈ lw_all := lw_g (lw_at lw_m6 41 rfl) rfl
theorem q1399 : (Jvm.Cond.static ({ cls := "TermLogModel", name := "reckon", desc := "(III)I" } : Jvm.MethodName)) ∈ lw_all := lw_g (lw_at lw_m6 42 rfl) rfl
theorem q1400 : (Jvm.Cond.code ({ cls := "TermLogModel", name := "reckon", desc := "(III)I" } : Jvm.MethodName) prog_18_method_51_code (3 : Nat) (Option.some Jvm.ClassFile.FieldType.int)) ∈ lw_all := lw_g (lw_at lw_m6 43 rfl) rfl
theorem q1401 : (Jvm.Cond.fieldLink "TermLogModel" (7 : Nat) "TermLogModel" "now" "[I") ∈ lw_all := lw_g (lw_at lw_m6 44 rfl) rfl
theorem q1402 : (Jvm.Cond.fieldLink "TermLogModel" (13 : Nat) "TermLogModel" "aside" "[I") ∈ lw_all := lw_g (lw_at lw_m6 45 rfl) rfl
theorem q1403 : (Jvm.Cond.fieldLink "TermLogModel" (16 : Nat) "TermLogModel" "kept" "[I") ∈ lw_all := lw_g (lw_at lw_m6 46 rfl) rfl
theorem q1404 : (Jvm.Cond.fieldLink "TermLogModel" (19 : Nat) "TermLogModel" "mailNow" "[I") ∈ lw_all := lw_g (lw_at lw_m6 47 rfl) rfl
theorem q1405 : (Jvm.Cond.fieldLink "TermLogModel" (22 : Nat) "TermLogModel" "mailIn" "[I") ∈ lw_all := lw_g (lw_at lw_m6 48 rfl) rfl
theorem q1406 : (Jvm.Cond.fieldLink "TermLogModel" (25 : Nat) "TermLogModel" "tape" "[B") ∈ lw_all := lw_g (lw_at lw_m6 49 rfl) rfl
theorem q1407 : (Jvm.Cond.fieldLink "TermLogModel" (147 : Nat) "TermLogModel" "taped" "I") ∈ lw_all := lw_g (lw_at lw_m6 50 rfl) rfl
theorem q1408 : (Jvm.Cond.fieldLink "TermLogModel" (154 : Nat) "TermLogModel" "place0" "I") ∈ lw_all := lw_g (lw_at lw_m6 51 rfl) rfl
theorem q1409 : (Jvm.Cond.fieldLink "TermLogModel" (157 : Nat) "TermLogModel" "length0" "I") ∈ lw_all := lw_g (lw_at lw_m6 52 rfl) rfl
theorem q1410 : (Jvm.Cond.fieldLink "TermLogModel" (164 : Nat) "TermLogModel" "fault" "I") ∈ lw_all := lw_g (lw_at lw_m6 53 rfl) rfl
theorem q1411 : (Jvm.Cond.fieldLink "TermLogModel" (171 : Nat) "TermLogModel" "number0" "I") ∈ lw_all := lw_g (lw_at lw_m6 54 rfl) rfl
theorem q1412 : (Jvm.Cond.fieldLink "TermLogModel" (182 : Nat) "TermLogModel" "open" "I") ∈ lw_all := lw_g (lw_at lw_m6 55 rfl) rfl
theorem q1413 : (Jvm.Cond.fieldLink "TermLogModel" (178 : Nat) "TermLogModel" "codeMany" "I") ∈ lw_all := lw_g (lw_at lw_m6 56 rfl) rfl
theorem q1414 : (Jvm.Cond.fieldLink "TermLogModel" (185 : Nat) "TermLogModel" "waiting" "I") ∈ lw_all := lw_g (lw_at lw_m6 57 rfl) rfl
theorem q1415 : (Jvm.Cond.fieldLink "TermLogModel" (231 : Nat) "TermLogModel" "saidMany" "I") ∈ lw_all := lw_g (lw_at lw_m6 58 rfl) rfl
theorem q1416 : (Jvm.Cond.fieldLink "TermLogModel" (246 : Nat) "TermLogModel" "clauses" "I") ∈ lw_all := lw_g (lw_at lw_m6 59 rfl) rfl
theorem q1417 : (Jvm.Cond.fieldLink "TermLogModel" (29 : Nat) "TermLogModel" "said" "[I") ∈ lw_all := lw_g (lw_at lw_m6 60 rfl) rfl
theorem q1418 : (Jvm.Cond.fieldLink "TermLogModel" (32 : Nat) "TermLogModel" "waitsAt" "[I") ∈ lw_all := lw_g (lw_at lw_m6 61 rfl) rfl
theorem q1419 : (Jvm.Cond.fieldLink "TermLogModel" (35 : Nat) "TermLogModel" "saidLetter" "[I") ∈ lw_all := lw_g (lw_at lw_m6 62 rfl) rfl
theorem q1420 : (Jvm.Cond.fieldLink "TermLogModel" (38 : Nat) "TermLogModel" "saidFrom" "[I") ∈ lw_all := lw_g (lw_at lw_m6 63 rfl) rfl
theorem q1421 : (Jvm.Cond.fieldLink "TermLogModel" (41 : Nat) "TermLogModel" "saidHalf" "[I") ∈ lw_all := lw_g (lw_at lw_m6 64 rfl) rfl
theorem q1422 : (Jvm.Cond.fieldLink "TermLogModel" (44 : Nat) "TermLogModel" "saidTo" "[I") ∈ lw_all := lw_g (lw_at lw_m6 65 rfl) rfl
theorem q1423 : (Jvm.Cond.fieldLink "TermLogModel" (47 : Nat) "TermLogModel" "codes" "[I") ∈ lw_all := lw_g (lw_at lw_m6 66 rfl) rfl
theorem q1424 : (Jvm.Cond.fieldLink "TermLogModel" (50 : Nat) "TermLogModel" "clauseOf" "[I") ∈ lw_all := lw_g (lw_at lw_m6 67 rfl) rfl
theorem q1425 : (Jvm.Cond.fieldLink "TermLogModel" (53 : Nat) "TermLogModel" "codeFrom" "[I") ∈ lw_all := lw_g (lw_at lw_m6 68 rfl) rfl
theorem q1426 : (Jvm.Cond.fieldLink "TermLogModel" (56 : Nat) "TermLogModel" "codeHalf" "[I") ∈ lw_all := lw_g (lw_at lw_m6 69 rfl) rfl
theorem q1427 : (Jvm.Cond.fieldLink "TermLogModel" (59 : Nat) "TermLogModel" "codeTo" "[I") ∈ lw_all := lw_g (lw_at lw_m6 70 rfl) rfl
theorem q1428 : (Jvm.Cond.fieldLink "TermLogModel" (62 : Nat) "TermLogModel" "stack" "[I") ∈ lw_all := lw_g (lw_at lw_m6 71 rfl) rfl
theorem q1429 : (Jvm.Cond.fieldLink "TermLogModel" (65 : Nat) "TermLogModel" "facts" "[I") ∈ lw_all := lw_g (lw_at lw_m6 72 rfl) rfl
theorem q1430 : (Jvm.Cond.fieldLink "TermLogModel" (320 : Nat) "TermLogModel" "heldNow" "I") ∈ lw_all := lw_g (lw_at lw_m6 73 rfl) rfl
theorem q1431 : (Jvm.Cond.fieldLink "TermLogModel" (68 : Nat) "TermLogModel" "actOf" "[I") ∈ lw_all := lw_g (lw_at lw_m6 74 rfl) rfl
theorem q1432 : (Jvm.Cond.fieldLink "TermLogModel" (71 : Nat) "TermLogModel" "actA" "[I") ∈ lw_all := lw_g (lw_at lw_m6 75 rfl) rfl
theorem q1433 : (Jvm.Cond.fieldLink "TermLogModel" (74 : Nat) "TermLogModel" "actB" "[I") ∈ lw_all := lw_g (lw_at lw_m6 76 rfl) rfl
theorem q1434 : (Jvm.Cond.fieldLink "TermLogModel" (77 : Nat) "TermLogModel" "actC" "[I") ∈ lw_all := lw_g (lw_at lw_m6 77 rfl) rfl
theorem q1435 : (Jvm.Cond.fieldLink "TermLogModel" (80 : Nat) "TermLogModel" "roundFrom" "[I") ∈ lw_all := lw_g (lw_at lw_m6 78 rfl) rfl
theorem q1436 : (Jvm.Cond.fieldLink "TermLogModel" (83 : Nat) "TermLogModel" "roundAt" "[I") ∈ lw_all := lw_g (lw_at lw_m6 79 rfl) rfl
theorem q1437 : (Jvm.Cond.fieldLink "TermLogModel" (86 : Nat) "TermLogModel" "roundTimes" "[I") ∈ lw_all := lw_g (lw_at lw_m6 80 rfl) rfl
theorem q1438 : (Jvm.Cond.fieldLink "TermLogModel" (426 : Nat) "TermLogModel" "actMany" "I") ∈ lw_all := lw_g (lw_at lw_m6 81 rfl) rfl
theorem q1439 : (Jvm.Cond.fieldLink "TermLogModel" (444 : Nat) "TermLogModel" "rounds" "I") ∈ lw_all := lw_g (lw_at lw_m6 82 rfl) rfl
theorem q1440 : (Jvm.Cond.fieldLink "TermLogModel" (420 : Nat) "TermLogModel" "itFrom" "I") ∈ lw_all := lw_g (lw_at lw_m6 83 rfl) rfl
theorem q1441 : (Jvm.Cond.fieldLink "TermLogModel" (423 : Nat) "TermLogModel" "itTimes" "I") ∈ lw_all := lw_g (lw_at lw_m6 84 rfl) rfl
theorem q1442 : (Jvm.Cond.fieldLink "TermLogModel" (429 : Nat) "TermLogModel" "numberA" "I") ∈ lw_all := lw_g (lw_at lw_m6 85 rfl) rfl
theorem q1443 : (Jvm.Cond.fieldLink "TermLogModel" (432 : Nat) "TermLogModel" "numberB" "I") ∈ lw_all := lw_g (lw_at lw_m6 86 rfl) rfl
theorem q1444 : (Jvm.Cond.fieldLink "TermLogModel" (435 : Nat) "TermLogModel" "numberC" "I") ∈ lw_all := lw_g (lw_at lw_m6 87 rfl) rfl
theorem q1445 : (Jvm.Cond.fieldLink "TermLogModel" (510 : Nat) "TermLogModel" "isKept" "Z") ∈ lw_all := lw_g (lw_at lw_m6 88 rfl) rfl
theorem q1446 : (Jvm.Cond.laysFinal "TermLogModel" "TermLogModel" "now" "[I") ∈ lw_all := lw_g (lw_at lw_m6 89 rfl) rfl
theorem q1447 : (Jvm.Cond.soleField "TermLogModel" "now") ∈ lw_all := lw_g (lw_at lw_m6 90 rfl) rfl
theorem q1448 : (Jvm.Cond.laysFinal "TermLogModel" "TermLogModel" "aside" "[I") ∈ lw_all := lw_g (lw_at lw_m6 91 rfl) rfl
theorem q1449 : (Jvm.Cond.soleField "TermLogModel" "aside") ∈ lw_all := lw_g (lw_at lw_m6 92 rfl) rfl
theorem q1450 : (Jvm.Cond.laysFinal "TermLogModel" "TermLogModel" "kept" "[I") ∈ lw_all := lw_g (lw_at lw_m6 93 rfl) rfl
theorem q1451 : (Jvm.Cond.soleField "TermLogModel" "kept") ∈ lw_all := lw_g (lw_at lw_m6 94 rfl) rfl
theorem q1452 : (Jvm.Cond.laysFinal "TermLogModel" "TermLogModel" "mailNow" "[I") ∈ lw_all := lw_g (lw_at lw_m6 95 rfl) rfl
theorem q1453 : (Jvm.Cond.soleField "TermLogModel" "mailNow") ∈ lw_all := lw_g (lw_at lw_m6 96 rfl) rfl
theorem q1454 : (Jvm.Cond.laysFinal "TermLogModel" "TermLogModel" "mailIn" "[I") ∈ lw_all := lw_g (lw_at lw_m6 97 rfl) rfl
theorem q1455 : (Jvm.Cond.soleField "TermLogModel" "mailIn") ∈ lw_all := lw_g (lw_at lw_m6 98 rfl) rfl
theorem q1456 : (Jvm.Cond.laysFinal "TermLogModel" "TermLogModel" "tape" "[B") ∈ lw_all := lw_g (lw_at lw_m6 99 rfl) rfl
theorem q1457 : (Jvm.Cond.soleField "TermLogModel" "tape") ∈ lw_all := lw_g (lw_at lw_m6 100 rfl) rfl
theorem q1458 : (Jvm.Cond.lays "TermLogModel" "TermLogModel" "taped" "I") ∈ lw_all := lw_g (lw_at lw_m6 101 rfl) rfl
theorem q1459 : (Jvm.Cond.soleField "TermLogModel" "taped") ∈ lw_all := lw_g (lw_at lw_m6 102 rfl) rfl
theorem q1460 : (Jvm.Cond.lays "TermLogModel" "TermLogModel" "place0" "I") ∈ lw_all := lw_g (lw_at lw_m6 103 rfl) rfl
theorem q1461 : (Jvm.Cond.soleField "TermLogModel" "place0") ∈ lw_all := lw_g (lw_at lw_m6 104 rfl) rfl
theorem q1462 : (Jvm.Cond.lays "TermLogModel" "TermLogModel" "length0" "I") ∈ lw_all := lw_g (lw_at lw_m6 105 rfl) rfl
theorem q1463 : (Jvm.Cond.soleField "TermLogModel" "length0") ∈ lw_all := lw_g (lw_at lw_m6 106 rfl) rfl
theorem q1464 : (Jvm.Cond.lays "TermLogModel" "TermLogModel" "fault" "I") ∈ lw_all := lw_g (lw_at lw_m6 107 rfl) rfl
theorem q1465 : (Jvm.Cond.soleField "TermLogModel" "fault") ∈ lw_all := lw_g (lw_at lw_m6 108 rfl) rfl
theorem q1466 : (Jvm.Cond.lays "TermLogModel" "TermLogModel" "number0" "I") ∈ lw_all := lw_g (lw_at lw_m6 109 rfl) rfl
theorem q1467 : (Jvm.Cond.soleField "TermLogModel" "number0") ∈ lw_all := lw_g (lw_at lw_m6 110 rfl) rfl
theorem q1468 : (Jvm.Cond.lays "TermLogModel" "TermLogModel" "open" "I") ∈ lw_all := lw_g (lw_at lw_m6 111 rfl) rfl
theorem q1469 : (Jvm.Cond.soleField "TermLogModel" "open") ∈ lw_all := lw_g (lw_at lw_m6 112 rfl) rfl
theorem q1470 : (Jvm.Cond.lays "TermLogModel" "TermLogModel" "codeMany" "I") ∈ lw_all := lw_g (lw_at lw_m6 113 rfl) rfl
theorem q1471 : (Jvm.Cond.soleField "TermLogModel" "codeMany") ∈ lw_all := lw_g (lw_at lw_m6 114 rfl) rfl
theorem q1472 : (Jvm.Cond.lays "TermLogModel" "TermLogModel" "waiting" "I") ∈ lw_all := lw_g (lw_at lw_m6 115 rfl) rfl
theorem q1473 : (Jvm.Cond.soleField "TermLogModel" "waiting") ∈ lw_all := lw_g (lw_at lw_m6 116 rfl) rfl
theorem q1474 : (Jvm.Cond.lays "TermLogModel" "TermLogModel" "saidMany" "I") ∈ lw_all := lw_g (lw_at lw_m6 117 rfl) rfl
theorem q1475 : (Jvm.Cond.soleField "TermLogModel" "saidMany") ∈ lw_all := lw_g (lw_at lw_m6 118 rfl) rfl
theorem q1476 : (Jvm.Cond.lays "TermLogModel" "TermLogModel" "clauses" "I") ∈ lw_all := lw_g (lw_at lw_m6 119 rfl) rfl
theorem q1477 : (Jvm.Cond.soleField "TermLogModel" "clauses") ∈ lw_all := lw_g (lw_at lw_m6 120 rfl) rfl
theorem q1478 : (Jvm.Cond.laysFinal "TermLogModel" "TermLogModel" "said" "[I") ∈ lw_all := lw_g (lw_at lw_m6 121 rfl) rfl
theorem q1479 : (Jvm.Cond.soleField "TermLogModel" "said") ∈ lw_all := lw_g (lw_at lw_m6 122 rfl) rfl
theorem q1480 : (Jvm.Cond.laysFinal "TermLogModel" "TermLogModel" "waitsAt" "[I") ∈ lw_all := lw_g (lw_at lw_m6 123 rfl) rfl
theorem q1481 : (Jvm.Cond.soleField "TermLogModel" "waitsAt") ∈ lw_all := lw_g (lw_at lw_m6 124 rfl) rfl
theorem q1482 : (Jvm.Cond.laysFinal "TermLogModel" "TermLogModel" "saidLetter" "[I") ∈ lw_all := lw_g (lw_at lw_m6 125 rfl) rfl
theorem q1483 : (Jvm.Cond.soleField "TermLogModel" "saidLetter") ∈ lw_all := lw_g (lw_at lw_m6 126 rfl) rfl
theorem q1484 : (Jvm.Cond.laysFinal "TermLogModel" "TermLogModel" "saidFrom" "[I") ∈ lw_all := lw_g (lw_at lw_m6 127 rfl) rfl
theorem q1485 : (Jvm.Cond.soleField "TermLogModel" "saidFrom") ∈ lw_all := lw_g (lw_at lw_m6 128 rfl) rfl
theorem q1486 : (Jvm.Cond.laysFinal "TermLogModel" "TermLogModel" "saidHalf" "[I") ∈ lw_all := lw_g (lw_at lw_m6 129 rfl) rfl
theorem q1487 : (Jvm.Cond.soleField "TermLogModel" "saidHalf") ∈ lw_all := lw_g (lw_at lw_m6 130 rfl) rfl
theorem q1488 : (Jvm.Cond.laysFinal "TermLogModel" "TermLogModel" "saidTo" "[I") ∈ lw_all := lw_g (lw_at lw_m6 131 rfl) rfl
theorem q1489 : (Jvm.Cond.soleField "TermLogModel" "saidTo") ∈ lw_all := lw_g (lw_at lw_m6 132 rfl) rfl
theorem q1490 : (Jvm.Cond.laysFinal "TermLogModel" "TermLogModel" "codes" "[I") ∈ lw_all := lw_g (lw_at lw_m6 133 rfl) rfl
theorem q1491 : (Jvm.Cond.soleField "TermLogModel" "codes") ∈ lw_all := lw_g (lw_at lw_m6 134 rfl) rfl
theorem q1492 : (Jvm.Cond.laysFinal "TermLogModel" "TermLogModel" "clauseOf" "[I") ∈ lw_all := lw_g (lw_at lw_m6 135 rfl) rfl
theorem q1493 : (Jvm.Cond.soleField "TermLogModel" "clauseOf") ∈ lw_all := lw_g (lw_at lw_m6 136 rfl) rfl
theorem q1494 : (Jvm.Cond.laysFinal "TermLogModel" "TermLogModel" "codeFrom" "[I") ∈ lw_all := lw_g (lw_at lw_m6 137 rfl) rfl
theorem q1495 : (Jvm.Cond.soleField "TermLogModel" "codeFrom") ∈ lw_all := lw_g (lw_at lw_m6 138 rfl) rfl
theorem q1496 : (Jvm.Cond.laysFinal "TermLogModel" "TermLogModel" "codeHalf" "[I") ∈ lw_all := lw_g (lw_at lw_m6 139 rfl) rfl
theorem q1497 : (Jvm.Cond.soleField "TermLogModel" "codeHalf") ∈ lw_all := lw_g (lw_at lw_m6 140 rfl) rfl
theorem q1498 : (Jvm.Cond.laysFinal "TermLogModel" "TermLogModel" "codeTo" "[I") ∈ lw_all := lw_g (lw_at lw_m6 141 rfl) rfl
theorem q1499 : (Jvm.Cond.soleField "TermLogModel" "codeTo") ∈ lw_all := lw_g (lw_at lw_m6 142 rfl) rfl
theorem q1500 : (Jvm.Cond.laysFinal "TermLogModel" "TermLogModel" "stack" "[I") ∈ lw_all := lw_g (lw_at lw_m6 143 rfl) rfl
theorem q1501 : (Jvm.Cond.soleField "TermLogModel" "stack") ∈ lw_all := lw_g (lw_at lw_m6 144 rfl) rfl
theorem q1502 : (Jvm.Cond.laysFinal "TermLogModel" "TermLogModel" "facts" "[I") ∈ lw_all := lw_g (lw_at lw_m6 145 rfl) rfl
theorem q1503 : (Jvm.Cond.soleField "TermLogModel" "facts") ∈ lw_all := lw_g (lw_at lw_m6 146 rfl) rfl
theorem q1504 : (Jvm.Cond.lays "TermLogModel" "TermLogModel" "heldNow" "I") ∈ lw_all := lw_g (lw_at lw_m6 147 rfl) rfl
theorem q1505 : (Jvm.Cond.soleField "TermLogModel" "heldNow") ∈ lw_all := lw_g (lw_at lw_m6 148 rfl) rfl
theorem q1506 : (Jvm.Cond.laysFinal "TermLogModel" "TermLogModel" "actOf" "[I") ∈ lw_all := lw_g (lw_at lw_m6 149 rfl) rfl
theorem q1507 : (Jvm.Cond.soleField "TermLogModel" "actOf") ∈ lw_all := lw_g (lw_at lw_m6 150 rfl) rfl
theorem q1508 : (Jvm.Cond.laysFinal "TermLogModel" "TermLogModel" "actA" "[I") ∈ lw_all := lw_g (lw_at lw_m6 151 rfl) rfl
theorem q1509 : (Jvm.Cond.soleField "TermLogModel" "actA") ∈ lw_all := lw_g (lw_at lw_m6 152 rfl) rfl
theorem q1510 : (Jvm.Cond.laysFinal "TermLogModel" "TermLogModel" "actB" "[I") ∈ lw_all := lw_g (lw_at lw_m6 153 rfl) rfl
theorem q1511 : (Jvm.Cond.soleField "TermLogModel" "actB") ∈ lw_all := lw_g (lw_at lw_m6 154 rfl) rfl
theorem q1512 : (Jvm.Cond.laysFinal "TermLogModel" "TermLogModel" "actC" "[I") ∈ lw_all := lw_g (lw_at lw_m6 155 rfl) rfl
theorem q1513 : (Jvm.Cond.soleField "TermLogModel" "actC") ∈ lw_all := lw_g (lw_at lw_m6 156 rfl) rfl
theorem q1514 : (Jvm.Cond.laysFinal "TermLogModel" "TermLogModel" "roundFrom" "[I") ∈ lw_all := lw_g (lw_at lw_m6 157 rfl) rfl
theorem q1515 : (Jvm.Cond.soleField "TermLogModel" "roundFrom") ∈ lw_all := lw_g (lw_at lw_m6 158 rfl) rfl
theorem q1516 : (Jvm.Cond.laysFinal "TermLogModel" "TermLogModel" "roundAt" "[I") ∈ lw_all := lw_g (lw_at lw_m6 159 rfl) rfl
theorem q1517 : (Jvm.Cond.soleField "TermLogModel" "roundAt") ∈ lw_all := lw_g (lw_at lw_m6 160 rfl) rfl
theorem q1518 : (Jvm.Cond.laysFinal "TermLogModel" "TermLogModel" "roundTimes" "[I") ∈ lw_all := lw_g (lw_at lw_m6 161 rfl) rfl
theorem q1519 : (Jvm.Cond.soleField "TermLogModel" "roundTimes") ∈ lw_all := lw_g (lw_at lw_m6 162 rfl) rfl
theorem q1520 : (Jvm.Cond.lays "TermLogModel" "TermLogModel" "actMany" "I") ∈ lw_all := lw_g (lw_at lw_m6 163 rfl) rfl
theorem q1521 : (Jvm.Cond.soleField "TermLogModel" "actMany") ∈ lw_all := lw_g (lw_at lw_m6 164 rfl) rfl
theorem q1522 : (Jvm.Cond.lays "TermLogModel" "TermLogModel" "rounds" "I") ∈ lw_all := lw_g (lw_at lw_m6 165 rfl) rfl
theorem q1523 : (Jvm.Cond.soleField "TermLogModel" "rounds") ∈ lw_all := lw_g (lw_at lw_m6 166 rfl) rfl
theorem q1524 : (Jvm.Cond.lays "TermLogModel" "TermLogModel" "itFrom" "I") ∈ lw_all := lw_g (lw_at lw_m6 167 rfl) rfl
theorem q1525 : (Jvm.Cond.soleField "TermLogModel" "itFrom") ∈ lw_all := lw_g (lw_at lw_m6 168 rfl) rfl
theorem q1526 : (Jvm.Cond.lays "TermLogModel" "TermLogModel" "itTimes" "I") ∈ lw_all := lw_g (lw_at lw_m6 169 rfl) rfl
theorem q1527 : (Jvm.Cond.soleField "TermLogModel" "itTimes") ∈ lw_all := lw_g (lw_at lw_m6 170 rfl) rfl
theorem q1528 : (Jvm.Cond.lays "TermLogModel" "TermLogModel" "numberA" "I") ∈ lw_all := lw_g (lw_at lw_m6 171 rfl) rfl
theorem q1529 : (Jvm.Cond.soleField "TermLogModel" "numberA") ∈ lw_all := lw_g (lw_at lw_m6 172 rfl) rfl
theorem q1530 : (Jvm.Cond.lays "TermLogModel" "TermLogModel" "numberB" "I") ∈ lw_all := lw_g (lw_at lw_m6 173 rfl) rfl
theorem q1531 : (Jvm.Cond.soleField "TermLogModel" "numberB") ∈ lw_all := lw_g (lw_at lw_m6 174 rfl) rfl
theorem q1532 : (Jvm.Cond.lays "TermLogModel" "TermLogModel" "numberC" "I") ∈ lw_all := lw_g (lw_at lw_m6 175 rfl) rfl
theorem q1533 : (Jvm.Cond.soleField "TermLogModel" "numberC") ∈ lw_all := lw_g (lw_at lw_m6 176 rfl) rfl
theorem q1534 : (Jvm.Cond.lays "TermLogModel" "TermLogModel" "isKept" "Z") ∈ lw_all := lw_g (lw_at lw_m6 177 rfl) rfl
theorem q1535 : (Jvm.Cond.soleField "TermLogModel" "isKept") ∈ lw_all := lw_g (lw_at lw_m6 178 rfl) rfl
theorem q1536 : (Jvm.Cond.superclass "TermLogModel" "java/lang/Object") ∈ lw_all := lw_g (lw_at lw_m6 179 rfl) rfl
theorem q1538 : (Jvm.Cond.instanceMethod ({ cls := "TermLogModel", name := "feed", desc := "(IIIII)I" } : Jvm.MethodName)) ∈ lw_all := lw_g (lw_at lw_m6 181 rfl) rfl
theorem q1539 : (Jvm.Cond.selects "TermLogModel" ({ cls := "TermLogModel", name := "feed", desc := "(IIIII)I" } : Jvm.MethodName) ({ cls := "TermLogModel", name := "feed", desc := "(IIIII)I" } : Jvm.MethodName)) ∈ lw_all := lw_g (lw_at lw_m6 182 rfl) rfl
theorem q1540 : (Jvm.Cond.code ({ cls := "TermLogModel", name := "feed", desc := "(IIIII)I" } : Jvm.MethodName) prog_18_method_27_code (6 : Nat) (Option.some Jvm.ClassFile.FieldType.int)) ∈ lw_all := lw_g (lw_at lw_m6 183 rfl) rfl
theorem q1541 : (Jvm.Cond.methodLink "TermLogModel" (151 : Nat) ({ cls := "TermLogModel", name := "types", desc := "(I)V" } : Jvm.MethodName)) ∈ lw_all := lw_g (lw_at lw_m6 184 rfl) rfl
theorem q1542 : (Jvm.Cond.privateMethod ({ cls := "TermLogModel", name := "types", desc := "(I)V" } : Jvm.MethodName)) ∈ lw_tbl := lw_at lw_m6 185 rfl
theorem q1543 : (Jvm.Cond.instanceMethod ({ cls := "TermLogModel", name := "types", desc := "(I)V" } : Jvm.MethodName)) ∈ lw_all := lw_g (lw_at lw_m6 186 rfl) rfl
theorem q1544 : (Jvm.Cond.code ({ cls := "TermLogModel", name := "types", desc := "(I)V" } : Jvm.MethodName) prog_18_method_26_code (3 : Nat) (Option.none : Option Jvm.ClassFile.FieldType)) ∈ lw_all := lw_g (lw_at lw_m6 187 rfl) rfl
theorem q1546 : (Jvm.Cond.instanceMethod ({ cls := "TermLogModel", name := "law", desc := "(I)I" } : Jvm.MethodName)) ∈ lw_all := lw_g (lw_at lw_m6 189 rfl) rfl
theorem q1547 : (Jvm.Cond.selects "TermLogModel" ({ cls := "TermLogModel", name := "law", desc := "(I)I" } : Jvm.MethodName) ({ cls := "TermLogModel", name := "law", desc := "(I)I" } : Jvm.MethodName)) ∈ lw_all := lw_g (lw_at lw_m6 190 rfl) rfl
theorem q1548 : (Jvm.Cond.code ({ cls := "TermLogModel", name := "law", desc := "(I)I" } : Jvm.MethodName) prog_18_method_50_code (4 : Nat) (Option.some Jvm.ClassFile.FieldType.int)) ∈ lw_all := lw_g (lw_at lw_m6 191 rfl) rfl
theorem q1549 : (Jvm.Cond.methodLink "TermLogModel" (93 : Nat) ({ cls := "TermLogModel", name := "in", desc := "(III)Z" } : Jvm.MethodName)) ∈ lw_all := lw_g (lw_at lw_m6 192 rfl) rfl
theorem q1550 : (Jvm.Cond.static ({ cls := "TermLogModel", name := "in", desc := "(III)Z" } : Jvm.MethodName)) ∈ lw_all := lw_g (lw_at lw_m6 193 rfl) rfl
theorem q1551 : (Jvm.Cond.code ({ cls := "TermLogModel", name := "in", desc := "(III)Z" } : Jvm.MethodName) prog_18_method_2_code (3 : Nat) (Option.some Jvm.ClassFile.FieldType.boolean)) ∈ lw_all := lw_g (lw_at lw_m6 194 rfl) rfl
theorem q1552 : (Jvm.Cond.methodLink "TermLogModel" (237 : Nat) ({ cls := "TermLogModel", name := "beginsText", desc := "(I)V" } : Jvm.MethodName)) ∈ lw_all := lw_g (lw_at lw_m6 195 rfl) rfl
theorem q1553 : (Jvm.Cond.privateMethod ({ cls := "TermLogModel", name := "beginsText", desc := "(I)V" } : Jvm.MethodName)) ∈ lw_tbl := lw_at lw_m6 196 rfl
theorem q1554 : (Jvm.Cond.instanceMethod ({ cls := "TermLogModel", name := "beginsText", desc := "(I)V" } : Jvm.MethodName)) ∈ lw_all := lw_g (lw_at lw_m6 197 rfl) rfl
theorem q1555 : (Jvm.Cond.code ({ cls := "TermLogModel", name := "beginsText", desc := "(I)V" } : Jvm.MethodName) prog_18_method_49_code (2 : Nat) (Option.none : Option Jvm.ClassFile.FieldType)) ∈ lw_all := lw_g (lw_at lw_m6 198 rfl) rfl
theorem q1556 : (Jvm.Cond.methodLink "TermLogModel" (240 : Nat) ({ cls := "TermLogModel", name := "readsRule", desc := "()Z" } : Jvm.MethodName)) ∈ lw_all := lw_g (lw_at lw_m6 199 rfl) rfl
theorem q1557 : (Jvm.Cond.privateMethod ({ cls := "TermLogModel", name := "readsRule", desc := "()Z" } : Jvm.MethodName)) ∈ lw_tbl := lw_at lw_m6 200 rfl
theorem q1558 : (Jvm.Cond.instanceMethod ({ cls := "TermLogModel", name := "readsRule", desc := "()Z" } : Jvm.MethodName)) ∈ lw_all := lw_g (lw_at lw_m6 201 rfl) rfl
theorem q1559 : (Jvm.Cond.code ({ cls := "TermLogModel", name := "readsRule", desc := "()Z" } : Jvm.MethodName) prog_18_method_48_code (2 : Nat) (Option.some Jvm.ClassFile.FieldType.boolean)) ∈ lw_all := lw_g (lw_at lw_m6 202 rfl) rfl
theorem q1560 : (Jvm.Cond.methodLink "TermLogModel" (160 : Nat) ({ cls := "TermLogModel", name := "here", desc := "()I" } : Jvm.MethodName)) ∈ lw_all := lw_g (lw_at lw_m6 203 rfl) rfl
theorem q1561 : (Jvm.Cond.privateMethod ({ cls := "TermLogModel", name := "here", desc := "()I" } : Jvm.MethodName)) ∈ lw_tbl := lw_at lw_m6 204 rfl
theorem q1562 : (Jvm.Cond.instanceMethod ({ cls := "TermLogModel", name := "here", desc := "()I" } : Jvm.MethodName)) ∈ lw_all := lw_g (lw_at lw_m6 205 rfl) rfl
theorem q1563 : (Jvm.Cond.code ({ cls := "TermLogModel", name := "here", desc := "()I" } : Jvm.MethodName) prog_18_method_29_code (1 : Nat) (Option.some Jvm.ClassFile.FieldType.int)) ∈ lw_all := lw_g (lw_at lw_m6 206 rfl) rfl
theorem q1564 : (Jvm.Cond.methodLink "TermLogModel" (167 : Nat) ({ cls := "TermLogModel", name := "wrongAt", desc := "(II)Z" } : Jvm.MethodName)) ∈ lw_all := lw_g (lw_at lw_m6 207 rfl) rfl
theorem q1565 : (Jvm.Cond.privateMethod ({ cls := "TermLogModel", name := "wrongAt", desc := "(II)Z" } : Jvm.MethodName)) ∈ lw_tbl := lw_at lw_m6 208 rfl
theorem q1566 : (Jvm.Cond.instanceMethod ({ cls := "TermLogModel", name := "wrongAt", desc := "(II)Z" } : Jvm.MethodName)) ∈ lw_all := lw_g (lw_at lw_m6 209 rfl) rfl
theorem q1567 : (Jvm.Cond.code ({ cls := "TermLogModel", name := "wrongAt", desc := "(II)Z" } : Jvm.MethodName) prog_18_method_31_code (3 : Nat) (Option.some Jvm.ClassFile.FieldType.boolean)) ∈ lw_all := lw_g (lw_at lw_m6 210 rfl) rfl
theorem q1568 : (Jvm.Cond.methodLink "TermLogModel" (216 : Nat) ({ cls := "TermLogModel", name := "readsSum", desc := "()Z" } : Jvm.MethodName)) ∈ lw_all := lw_g (lw_at lw_m6 211 rfl) rfl
theorem q1569 : (Jvm.Cond.privateMethod ({ cls := "TermLogModel", name := "readsSum", desc := "()Z" } : Jvm.MethodName)) ∈ lw_tbl := lw_at lw_m6 212 rfl
theorem q1570 : (Jvm.Cond.instanceMethod ({ cls := "TermLogModel", name := "readsSum", desc := "()Z" } : Jvm.MethodName)) ∈ lw_all := lw_g (lw_at lw_m6 213 rfl) rfl
theorem q1571 : (Jvm.Cond.code ({ cls := "TermLogModel", name := "readsSum", desc := "()Z" } : Jvm.MethodName) prog_18_method_42_code (3 : Nat) (Option.some Jvm.ClassFile.FieldType.boolean)) ∈ lw_all := lw_g (lw_at lw_m6 214 rfl) rfl
theorem q1572 : (Jvm.Cond.methodLink "TermLogModel" (203 : Nat) ({ cls := "TermLogModel", name := "readsFactor", desc := "()Z" } : Jvm.MethodName)) ∈ lw_all := lw_g (lw_at lw_m6 215 rfl) rfl
theorem q1573 : (Jvm.Cond.privateMethod ({ cls := "TermLogModel", name := "readsFactor", desc := "()Z" } : Jvm.MethodName)) ∈ lw_tbl := lw_at lw_m6 216 rfl
theorem q1574 : (Jvm.Cond.instanceMethod ({ cls := "TermLogModel", name := "readsFactor", desc := "()Z" } : Jvm.MethodName)) ∈ lw_all := lw_g (lw_at lw_m6 217 rfl) rfl
theorem q1575 : (Jvm.Cond.code ({ cls := "TermLogModel", name := "readsFactor", desc := "()Z" } : Jvm.MethodName) prog_18_method_40_code (2 : Nat) (Option.some Jvm.ClassFile.FieldType.boolean)) ∈ lw_all := lw_g (lw_at lw_m6 218 rfl) rfl
theorem q1576 : (Jvm.Cond.methodLink "TermLogModel" (194 : Nat) ({ cls := "TermLogModel", name := "opens", desc := "(I)Z" } : Jvm.MethodName)) ∈ lw_all := lw_g (lw_at lw_m6 219 rfl) rfl
theorem q1577 : (Jvm.Cond.privateMethod ({ cls := "TermLogModel", name := "opens", desc := "(I)Z" } : Jvm.MethodName)) ∈ lw_tbl := lw_at lw_m6 220 rfl
theorem q1578 : (Jvm.Cond.instanceMethod ({ cls := "TermLogModel", name := "opens", desc := "(I)Z" } : Jvm.MethodName)) ∈ lw_all := lw_g (lw_at lw_m6 221 rfl) rfl
theorem q1579 : (Jvm.Cond.code ({ cls := "TermLogModel", name := "opens", desc := "(I)Z" } : Jvm.MethodName) prog_18_method_35_code (2 : Nat) (Option.some Jvm.ClassFile.FieldType.boolean)) ∈ lw_all := lw_g (lw_at lw_m6 222 rfl) rfl
theorem q1580 : (Jvm.Cond.methodLink "TermLogModel" (174 : Nat) ({ cls := "TermLogModel", name := "isDigit", desc := "()Z" } : Jvm.MethodName)) ∈ lw_all := lw_g (lw_at lw_m6 223 rfl) rfl
theorem q1581 : (Jvm.Cond.privateMethod ({ cls := "TermLogModel", name := "isDigit", desc := "()Z" } : Jvm.MethodName)) ∈ lw_tbl := lw_at lw_m6 224 rfl
theorem q1582 : (Jvm.Cond.instanceMethod ({ cls := "TermLogModel", name := "isDigit", desc := "()Z" } : Jvm.MethodName)) ∈ lw_all := lw_g (lw_at lw_m6 225 rfl) rfl
theorem q1583 : (Jvm.Cond.code ({ cls := "TermLogModel", name := "isDigit", desc := "()Z" } : Jvm.MethodName) prog_18_method_30_code (1 : Nat) (Option.some Jvm.ClassFile.FieldType.boolean)) ∈ lw_all := lw_g (lw_at lw_m6 226 rfl) rfl
theorem q1584 : (Jvm.Cond.methodLink "TermLogModel" (197 : Nat) ({ cls := "TermLogModel", name := "readsNumber", desc := "()Z" } : Jvm.MethodName)) ∈ lw_all := lw_g (lw_at lw_m6 227 rfl) rfl
theorem q1585 : (Jvm.Cond.privateMethod ({ cls := "TermLogModel", name := "readsNumber", desc := "()Z" } : Jvm.MethodName)) ∈ lw_tbl := lw_at lw_m6 228 rfl
theorem q1586 : (Jvm.Cond.instanceMethod ({ cls := "TermLogModel", name := "readsNumber", desc := "()Z" } : Jvm.MethodName)) ∈ lw_all := lw_g (lw_at lw_m6 229 rfl) rfl
theorem q1587 : (Jvm.Cond.code ({ cls := "TermLogModel", name := "readsNumber", desc := "()Z" } : Jvm.MethodName) prog_18_method_33_code (2 : Nat) (Option.some Jvm.ClassFile.FieldType.boolean)) ∈ lw_all := lw_g (lw_at lw_m6 230 rfl) rfl
theorem q1588 : (Jvm.Cond.methodLink "TermLogModel" (191 : Nat) ({ cls := "TermLogModel", name := "notes", desc := "(II)V" } : Jvm.MethodName)) ∈ lw_all := lw_g (lw_at lw_m6 231 rfl) rfl
theorem q1589 : (Jvm.Cond.privateMethod ({ cls := "TermLogModel", name := "notes", desc := "(II)V" } : Jvm.MethodName)) ∈ lw_tbl := lw_at lw_m6 232 rfl
theorem q1590 : (Jvm.Cond.instanceMethod ({ cls := "TermLogModel", name := "notes", desc := "(II)V" } : Jvm.MethodName)) ∈ lw_all := lw_g (lw_at lw_m6 233 rfl) rfl
theorem q1591 : (Jvm.Cond.code ({ cls := "TermLogModel", name := "notes", desc := "(II)V" } : Jvm.MethodName) prog_18_method_34_code (3 : Nat) (Option.none : Option Jvm.ClassFile.FieldType)) ∈ lw_all := lw_g (lw_at lw_m6 234 rfl) rfl
theorem q1592 : (Jvm.Cond.methodLink "TermLogModel" (200 : Nat) ({ cls := "TermLogModel", name := "factOf", desc := "(I)I" } : Jvm.MethodName)) ∈ lw_all := lw_g (lw_at lw_m6 235 rfl) rfl
theorem q1593 : (Jvm.Cond.static ({ cls := "TermLogModel", name := "factOf", desc := "(I)I" } : Jvm.MethodName)) ∈ lw_all := lw_g (lw_at lw_m6 236 rfl) rfl
theorem q1594 : (Jvm.Cond.code ({ cls := "TermLogModel", name := "factOf", desc := "(I)I" } : Jvm.MethodName) prog_18_method_37_code (1 : Nat) (Option.some Jvm.ClassFile.FieldType.int)) ∈ lw_all := lw_g (lw_at lw_m6 237 rfl) rfl
theorem q1595 : (Jvm.Cond.methodLink "TermLogModel" (206 : Nat) ({ cls := "TermLogModel", name := "sumSign", desc := "(I)I" } : Jvm.MethodName)) ∈ lw_all := lw_g (lw_at lw_m6 238 rfl) rfl
theorem q1596 : (Jvm.Cond.static ({ cls := "TermLogModel", name := "sumSign", desc := "(I)I" } : Jvm.MethodName)) ∈ lw_all := lw_g (lw_at lw_m6 239 rfl) rfl
theorem q1597 : (Jvm.Cond.code ({ cls := "TermLogModel", name := "sumSign", desc := "(I)I" } : Jvm.MethodName) prog_18_method_38_code (1 : Nat) (Option.some Jvm.ClassFile.FieldType.int)) ∈ lw_all := lw_g (lw_at lw_m7 0 rfl) rfl
theorem q1598 : (Jvm.Cond.methodLink "TermLogModel" (209 : Nat) ({ cls := "TermLogModel", name := "closesSums", desc := "(Z)V" } : Jvm.MethodName)) ∈ lw_all := lw_g (lw_at lw_m7 1 rfl) rfl
theorem q1599 : (Jvm.Cond.privateMethod ({ cls := "TermLogModel", name := "closesSums", desc := "(Z)V" } : Jvm.MethodName)) ∈ lw_tbl := lw_at lw_m7 2 rfl
theorem q1600 : (Jvm.Cond.instanceMethod ({ cls := "TermLogModel", name := "closesSums", desc := "(Z)V" } : Jvm.MethodName)) ∈ lw_all := lw_g (lw_at lw_m7 3 rfl) rfl
theorem q1601 : (Jvm.Cond.code ({ cls := "TermLogModel", name := "closesSums", desc := "(Z)V" } : Jvm.MethodName) prog_18_method_39_code (2 : Nat) (Option.none : Option Jvm.ClassFile.FieldType)) ∈ lw_all := lw_g (lw_at lw_m7 4 rfl) rfl
theorem q1602 : (Jvm.Cond.methodLink "TermLogModel" (188 : Nat) ({ cls := "TermLogModel", name := "waitTop", desc := "()I" } : Jvm.MethodName)) ∈ lw_all := lw_g (lw_at lw_m7 5 rfl) rfl
theorem q1603 : (Jvm.Cond.privateMethod ({ cls := "TermLogModel", name := "waitTop", desc := "()I" } : Jvm.MethodName)) ∈ lw_tbl := lw_at lw_m7 6 rfl
theorem q1604 : (Jvm.Cond.instanceMethod ({ cls := "TermLogModel", name := "waitTop", desc := "()I" } : Jvm.MethodName)) ∈ lw_all := lw_g (lw_at lw_m7 7 rfl) rfl
theorem q1605 : (Jvm.Cond.code ({ cls := "TermLogModel", name := "waitTop", desc := "()I" } : Jvm.MethodName) prog_18_method_36_code (1 : Nat) (Option.some Jvm.ClassFile.FieldType.int)) ∈ lw_all := lw_g (lw_at lw_m7 8 rfl) rfl
theorem q1606 : (Jvm.Cond.methodLink "TermLogModel" (213 : Nat) ({ cls := "TermLogModel", name := "hasOpenSum", desc := "(I)Z" } : Jvm.MethodName)) ∈ lw_all := lw_g (lw_at lw_m7 9 rfl) rfl
theorem q1607 : (Jvm.Cond.privateMethod ({ cls := "TermLogModel", name := "hasOpenSum", desc := "(I)Z" } : Jvm.MethodName)) ∈ lw_tbl := lw_at lw_m7 10 rfl
theorem q1608 : (Jvm.Cond.instanceMethod ({ cls := "TermLogModel", name := "hasOpenSum", desc := "(I)Z" } : Jvm.MethodName)) ∈ lw_all := lw_g (lw_at lw_m7 11 rfl) rfl
theorem q1609 : (Jvm.Cond.code ({ cls := "TermLogModel", name := "hasOpenSum", desc := "(I)Z" } : Jvm.MethodName) prog_18_method_41_code (3 : Nat) (Option.some Jvm.ClassFile.FieldType.boolean)) ∈ lw_all := lw_g (lw_at lw_m7 12 rfl) rfl
theorem q1610 : (Jvm.Cond.methodLink "TermLogModel" (234 : Nat) ({ cls := "TermLogModel", name := "readsCondition", desc := "()Z" } : Jvm.MethodName)) ∈ lw_all := lw_g (lw_at lw_m7 13 rfl) rfl
theorem q1611 : (Jvm.Cond.privateMethod ({ cls := "TermLogModel", name := "readsCondition", desc := "()Z" } : Jvm.MethodName)) ∈ lw_tbl := lw_at lw_m7 14 rfl
theorem q1612 : (Jvm.Cond.instanceMethod ({ cls := "TermLogModel", name := "readsCondition", desc := "()Z" } : Jvm.MethodName)) ∈ lw_all := lw_g (lw_at lw_m7 15 rfl) rfl
theorem q1613 : (Jvm.Cond.code ({ cls := "TermLogModel", name := "readsCondition", desc := "()Z" } : Jvm.MethodName) prog_18_method_47_code (1 : Nat) (Option.some Jvm.ClassFile.FieldType.boolean)) ∈ lw_all := lw_g (lw_at lw_m7 16 rfl) rfl
theorem q1614 : (Jvm.Cond.methodLink "TermLogModel" (222 : Nat) ({ cls := "TermLogModel", name := "readsCompared", desc := "()Z" } : Jvm.MethodName)) ∈ lw_all := lw_g (lw_at lw_m7 17 rfl) rfl
theorem q1615 : (Jvm.Cond.privateMethod ({ cls := "TermLogModel", name := "readsCompared", desc := "()Z" } : Jvm.MethodName)) ∈ lw_tbl := lw_at lw_m7 18 rfl
theorem q1616 : (Jvm.Cond.instanceMethod ({ cls := "TermLogModel", name := "readsCompared", desc := "()Z" } : Jvm.MethodName)) ∈ lw_all := lw_g (lw_at lw_m7 19 rfl) rfl
theorem q1617 : (Jvm.Cond.code ({ cls := "TermLogModel", name := "readsCompared", desc := "()Z" } : Jvm.MethodName) prog_18_method_46_code (2 : Nat) (Option.some Jvm.ClassFile.FieldType.boolean)) ∈ lw_all := lw_g (lw_at lw_m7 20 rfl) rfl
theorem q1618 : (Jvm.Cond.methodLink "TermLogModel" (219 : Nat) ({ cls := "TermLogModel", name := "endsPiece", desc := "()V" } : Jvm.MethodName)) ∈ lw_all := lw_g (lw_at lw_m7 21 rfl) rfl
theorem q1619 : (Jvm.Cond.privateMethod ({ cls := "TermLogModel", name := "endsPiece", desc := "()V" } : Jvm.MethodName)) ∈ lw_tbl := lw_at lw_m7 22 rfl
theorem q1620 : (Jvm.Cond.instanceMethod ({ cls := "TermLogModel", name := "endsPiece", desc := "()V" } : Jvm.MethodName)) ∈ lw_all := lw_g (lw_at lw_m7 23 rfl) rfl
theorem q1621 : (Jvm.Cond.code ({ cls := "TermLogModel", name := "endsPiece", desc := "()V" } : Jvm.MethodName) prog_18_method_43_code (1 : Nat) (Option.none : Option Jvm.ClassFile.FieldType)) ∈ lw_all := lw_g (lw_at lw_m7 24 rfl) rfl
theorem q1622 : (Jvm.Cond.methodLink "TermLogModel" (225 : Nat) ({ cls := "TermLogModel", name := "lands", desc := "(Z)V" } : Jvm.MethodName)) ∈ lw_all := lw_g (lw_at lw_m7 25 rfl) rfl
theorem q1623 : (Jvm.Cond.privateMethod ({ cls := "TermLogModel", name := "lands", desc := "(Z)V" } : Jvm.MethodName)) ∈ lw_tbl := lw_at lw_m7 26 rfl
theorem q1624 : (Jvm.Cond.instanceMethod ({ cls := "TermLogModel", name := "lands", desc := "(Z)V" } : Jvm.MethodName)) ∈ lw_all := lw_g (lw_at lw_m7 27 rfl) rfl
theorem q1625 : (Jvm.Cond.code ({ cls := "TermLogModel", name := "lands", desc := "(Z)V" } : Jvm.MethodName) prog_18_method_44_code (3 : Nat) (Option.none : Option Jvm.ClassFile.FieldType)) ∈ lw_all := lw_g (lw_at lw_m7 28 rfl) rfl
theorem q1626 : (Jvm.Cond.methodLink "TermLogModel" (228 : Nat) ({ cls := "TermLogModel", name := "jumps", desc := "(I)V" } : Jvm.MethodName)) ∈ lw_all := lw_g (lw_at lw_m7 29 rfl) rfl
theorem q1627 : (Jvm.Cond.privateMethod ({ cls := "TermLogModel", name := "jumps", desc := "(I)V" } : Jvm.MethodName)) ∈ lw_tbl := lw_at lw_m7 30 rfl
theorem q1628 : (Jvm.Cond.instanceMethod ({ cls := "TermLogModel", name := "jumps", desc := "(I)V" } : Jvm.MethodName)) ∈ lw_all := lw_g (lw_at lw_m7 31 rfl) rfl
theorem q1629 : (Jvm.Cond.code ({ cls := "TermLogModel", name := "jumps", desc := "(I)V" } : Jvm.MethodName) prog_18_method_45_code (2 : Nat) (Option.none : Option Jvm.ClassFile.FieldType)) ∈ lw_all := lw_g (lw_at lw_m7 32 rfl) rfl
theorem q1630 : (Jvm.Cond.methodLink "TermLogModel" (243 : Nat) ({ cls := "TermLogModel", name := "takes", desc := "(I)Z" } : Jvm.MethodName)) ∈ lw_all := lw_g (lw_at lw_m7 33 rfl) rfl
theorem q1631 : (Jvm.Cond.privateMethod ({ cls := "TermLogModel", name := "takes", desc := "(I)Z" } : Jvm.MethodName)) ∈ lw_tbl := lw_at lw_m7 34 rfl
theorem q1632 : (Jvm.Cond.instanceMethod ({ cls := "TermLogModel", name := "takes", desc := "(I)Z" } : Jvm.MethodName)) ∈ lw_all := lw_g (lw_at lw_m7 35 rfl) rfl
theorem q1633 : (Jvm.Cond.code ({ cls := "TermLogModel", name := "takes", desc := "(I)Z" } : Jvm.MethodName) prog_18_method_32_code (2 : Nat) (Option.some Jvm.ClassFile.FieldType.boolean)) ∈ lw_all := lw_g (lw_at lw_m7 36 rfl) rfl
theorem q1635 : (Jvm.Cond.instanceMethod ({ cls := "TermLogModel", name := "ticks", desc := "(I)I" } : Jvm.MethodName)) ∈ lw_all := lw_g (lw_at lw_m7 38 rfl) rfl
theorem q1636 : (Jvm.Cond.selects "TermLogModel" ({ cls := "TermLogModel", name := "ticks", desc := "(I)I" } : Jvm.MethodName) ({ cls := "TermLogModel", name := "ticks", desc := "(I)I" } : Jvm.MethodName)) ∈ lw_all := lw_g (lw_at lw_m7 39 rfl) rfl
theorem q1637 : (Jvm.Cond.code ({ cls := "TermLogModel", name := "ticks", desc := "(I)I" } : Jvm.MethodName) prog_18_method_97_code (2 : Nat) (Option.some Jvm.ClassFile.FieldType.int)) ∈ lw_all := lw_g (lw_at lw_m7 40 rfl) rfl
theorem q1638 : (Jvm.Cond.methodLink "TermLogModel" (411 : Nat) ({ cls := "TermLogModel", name := "ticksGo", desc := "(I)V" } : Jvm.MethodName)) ∈ lw_all := lw_g (lw_at lw_m7 41 rfl) rfl
theorem q1639 : (Jvm.Cond.privateMethod ({ cls := "TermLogModel", name := "ticksGo", desc := "(I)V" } : Jvm.MethodName)) ∈ lw_tbl := lw_at lw_m7 42 rfl
theorem q1640 : (Jvm.Cond.instanceMethod ({ cls := "TermLogModel", name := "ticksGo", desc := "(I)V" } : Jvm.MethodName)) ∈ lw_all := lw_g (lw_at lw_m7 43 rfl) rfl
theorem q1641 : (Jvm.Cond.code ({ cls := "TermLogModel", name := "ticksGo", desc := "(I)V" } : Jvm.MethodName) prog_18_method_96_code (3 : Nat) (Option.none : Option Jvm.ClassFile.FieldType)) ∈ lw_all := lw_g (lw_at lw_m7 44 rfl) rfl
theorem q1642 : (Jvm.Cond.methodLink "TermLogModel" (408 : Nat) ({ cls := "TermLogModel", name := "oneTick", desc := "()Z" } : Jvm.MethodName)) ∈ lw_all := lw_g (lw_at lw_m7 45 rfl) rfl
theorem q1643 : (Jvm.Cond.privateMethod ({ cls := "TermLogModel", name := "oneTick", desc := "()Z" } : Jvm.MethodName)) ∈ lw_tbl := lw_at lw_m7 46 rfl
theorem q1644 : (Jvm.Cond.instanceMethod ({ cls := "TermLogModel", name := "oneTick", desc := "()Z" } : Jvm.MethodName)) ∈ lw_all := lw_g (lw_at lw_m7 47 rfl) rfl
theorem q1645 : (Jvm.Cond.code ({ cls := "TermLogModel", name := "oneTick", desc := "()Z" } : Jvm.MethodName) prog_18_method_95_code (1 : Nat) (Option.some Jvm.ClassFile.FieldType.boolean)) ∈ lw_all := lw_g (lw_at lw_m7 48 rfl) rfl
theorem q1646 : (Jvm.Cond.methodLink "TermLogModel" (405 : Nat) ({ cls := "TermLogModel", name := "tickGoes", desc := "()V" } : Jvm.MethodName)) ∈ lw_all := lw_g (lw_at lw_m7 49 rfl) rfl
theorem q1647 : (Jvm.Cond.privateMethod ({ cls := "TermLogModel", name := "tickGoes", desc := "()V" } : Jvm.MethodName)) ∈ lw_tbl := lw_at lw_m7 50 rfl
theorem q1648 : (Jvm.Cond.instanceMethod ({ cls := "TermLogModel", name := "tickGoes", desc := "()V" } : Jvm.MethodName)) ∈ lw_all := lw_g (lw_at lw_m7 51 rfl) rfl
theorem q1649 : (Jvm.Cond.code ({ cls := "TermLogModel", name := "tickGoes", desc := "()V" } : Jvm.MethodName) prog_18_method_92_code (2 : Nat) (Option.none : Option Jvm.ClassFile.FieldType)) ∈ lw_all := lw_g (lw_at lw_m7 52 rfl) rfl
theorem q1650 : (Jvm.Cond.methodLink "TermLogModel" (390 : Nat) ({ cls := "TermLogModel", name := "takesDue", desc := "()Z" } : Jvm.MethodName)) ∈ lw_all := lw_g (lw_at lw_m7 53 rfl) rfl
theorem q1651 : (Jvm.Cond.privateMethod ({ cls := "TermLogModel", name := "takesDue", desc := "()Z" } : Jvm.MethodName)) ∈ lw_tbl := lw_at lw_m7 54 rfl
theorem q1652 : (Jvm.Cond.instanceMethod ({ cls := "TermLogModel", name := "takesDue", desc := "()Z" } : Jvm.MethodName)) ∈ lw_all := lw_g (lw_at lw_m7 55 rfl) rfl
theorem q1653 : (Jvm.Cond.code ({ cls := "TermLogModel", name := "takesDue", desc := "()Z" } : Jvm.MethodName) prog_18_method_79_code (5 : Nat) (Option.some Jvm.ClassFile.FieldType.boolean)) ∈ lw_all := lw_g (lw_at lw_m7 56 rfl) rfl
theorem q1654 : (Jvm.Cond.methodLink "TermLogModel" (393 : Nat) ({ cls := "TermLogModel", name := "isHanded", desc := "()V" } : Jvm.MethodName)) ∈ lw_all := lw_g (lw_at lw_m7 57 rfl) rfl
theorem q1655 : (Jvm.Cond.privateMethod ({ cls := "TermLogModel", name := "isHanded", desc := "()V" } : Jvm.MethodName)) ∈ lw_tbl := lw_at lw_m7 58 rfl
theorem q1656 : (Jvm.Cond.instanceMethod ({ cls := "TermLogModel", name := "isHanded", desc := "()V" } : Jvm.MethodName)) ∈ lw_all := lw_g (lw_at lw_m7 59 rfl) rfl
theorem q1657 : (Jvm.Cond.code ({ cls := "TermLogModel", name := "isHanded", desc := "()V" } : Jvm.MethodName) prog_18_method_80_code (2 : Nat) (Option.none : Option Jvm.ClassFile.FieldType)) ∈ lw_all := lw_g (lw_at lw_m7 60 rfl) rfl
theorem q1658 : (Jvm.Cond.methodLink "TermLogModel" (105 : Nat) ({ cls := "TermLogModel", name := "isUp", desc := "(I)Z" } : Jvm.MethodName)) ∈ lw_all := lw_g (lw_at lw_m7 61 rfl) rfl
theorem q1659 : (Jvm.Cond.privateMethod ({ cls := "TermLogModel", name := "isUp", desc := "(I)Z" } : Jvm.MethodName)) ∈ lw_tbl := lw_at lw_m7 62 rfl
theorem q1660 : (Jvm.Cond.instanceMethod ({ cls := "TermLogModel", name := "isUp", desc := "(I)Z" } : Jvm.MethodName)) ∈ lw_all := lw_g (lw_at lw_m7 63 rfl) rfl
theorem q1661 : (Jvm.Cond.code ({ cls := "TermLogModel", name := "isUp", desc := "(I)Z" } : Jvm.MethodName) prog_18_method_11_code (2 : Nat) (Option.some Jvm.ClassFile.FieldType.boolean)) ∈ lw_all := lw_g (lw_at lw_m7 64 rfl) rfl
theorem q1662 : (Jvm.Cond.methodLink "TermLogModel" (97 : Nat) ({ cls := "TermLogModel", name := "isNode", desc := "(I)Z" } : Jvm.MethodName)) ∈ lw_all := lw_g (lw_at lw_m7 65 rfl) rfl
theorem q1663 : (Jvm.Cond.static ({ cls := "TermLogModel", name := "isNode", desc := "(I)Z" } : Jvm.MethodName)) ∈ lw_all := lw_g (lw_at lw_m7 66 rfl) rfl
theorem q1664 : (Jvm.Cond.code ({ cls := "TermLogModel", name := "isNode", desc := "(I)Z" } : Jvm.MethodName) prog_18_method_8_code (1 : Nat) (Option.some Jvm.ClassFile.FieldType.boolean)) ∈ lw_all := lw_g (lw_at lw_m7 67 rfl) rfl
theorem q1665 : (Jvm.Cond.methodLink "TermLogModel" (347 : Nat) ({ cls := "TermLogModel", name := "areLinked", desc := "(II)Z" } : Jvm.MethodName)) ∈ lw_all := lw_g (lw_at lw_m7 68 rfl) rfl
theorem q1666 : (Jvm.Cond.privateMethod ({ cls := "TermLogModel", name := "areLinked", desc := "(II)Z" } : Jvm.MethodName)) ∈ lw_tbl := lw_at lw_m7 69 rfl
theorem q1667 : (Jvm.Cond.instanceMethod ({ cls := "TermLogModel", name := "areLinked", desc := "(II)Z" } : Jvm.MethodName)) ∈ lw_all := lw_g (lw_at lw_m7 70 rfl) rfl
theorem q1668 : (Jvm.Cond.code ({ cls := "TermLogModel", name := "areLinked", desc := "(II)Z" } : Jvm.MethodName) prog_18_method_78_code (3 : Nat) (Option.some Jvm.ClassFile.FieldType.boolean)) ∈ lw_all := lw_g (lw_at lw_m7 71 rfl) rfl
theorem q1669 : (Jvm.Cond.methodLink "TermLogModel" (286 : Nat) ({ cls := "TermLogModel", name := "has", desc := "(II)Z" } : Jvm.MethodName)) ∈ lw_all := lw_g (lw_at lw_m7 72 rfl) rfl
theorem q1670 : (Jvm.Cond.static ({ cls := "TermLogModel", name := "has", desc := "(II)Z" } : Jvm.MethodName)) ∈ lw_all := lw_g (lw_at lw_m7 73 rfl) rfl
theorem q1671 : (Jvm.Cond.code ({ cls := "TermLogModel", name := "has", desc := "(II)Z" } : Jvm.MethodName) prog_18_method_5_code (2 : Nat) (Option.some Jvm.ClassFile.FieldType.boolean)) ∈ lw_all := lw_g (lw_at lw_m7 74 rfl) rfl
theorem q1672 : (Jvm.Cond.methodLink "TermLogModel" (268 : Nat) ({ cls := "TermLogModel", name := "loses", desc := "()V" } : Jvm.MethodName)) ∈ lw_all := lw_g (lw_at lw_m7 75 rfl) rfl
theorem q1673 : (Jvm.Cond.privateMethod ({ cls := "TermLogModel", name := "loses", desc := "()V" } : Jvm.MethodName)) ∈ lw_tbl := lw_at lw_m7 76 rfl
theorem q1674 : (Jvm.Cond.instanceMethod ({ cls := "TermLogModel", name := "loses", desc := "()V" } : Jvm.MethodName)) ∈ lw_all := lw_g (lw_at lw_m7 77 rfl) rfl
theorem q1675 : (Jvm.Cond.code ({ cls := "TermLogModel", name := "loses", desc := "()V" } : Jvm.MethodName) prog_18_method_58_code (1 : Nat) (Option.none : Option Jvm.ClassFile.FieldType)) ∈ lw_all := lw_g (lw_at lw_m7 78 rfl) rfl
theorem q1676 : (Jvm.Cond.constant "TermLogModel" (264 : Nat) (99999 : Int32)) ∈ lw_all := lw_g (lw_at lw_m7 79 rfl) rfl
theorem q1677 : (Jvm.Cond.methodLink "TermLogModel" (115 : Nat) ({ cls := "TermLogModel", name := "min", desc := "(II)I" } : Jvm.MethodName)) ∈ lw_all := lw_g (lw_at lw_m7 80 rfl) rfl
theorem q1678 : (Jvm.Cond.static ({ cls := "TermLogModel", name := "min", desc := "(II)I" } : Jvm.MethodName)) ∈ lw_all := lw_g (lw_at lw_m7 81 rfl) rfl
theorem q1679 : (Jvm.Cond.code ({ cls := "TermLogModel", name := "min", desc := "(II)I" } : Jvm.MethodName) prog_18_method_3_code (2 : Nat) (Option.some Jvm.ClassFile.FieldType.int)) ∈ lw_all := lw_g (lw_at lw_m7 82 rfl) rfl
theorem q1680 : (Jvm.Cond.methodLink "TermLogModel" (341 : Nat) ({ cls := "TermLogModel", name := "follows", desc := "(II)V" } : Jvm.MethodName)) ∈ lw_all := lw_g (lw_at lw_m7 83 rfl) rfl
theorem q1681 : (Jvm.Cond.privateMethod ({ cls := "TermLogModel", name := "follows", desc := "(II)V" } : Jvm.MethodName)) ∈ lw_tbl := lw_at lw_m7 84 rfl
theorem q1682 : (Jvm.Cond.instanceMethod ({ cls := "TermLogModel", name := "follows", desc := "(II)V" } : Jvm.MethodName)) ∈ lw_all := lw_g (lw_at lw_m7 85 rfl) rfl
theorem q1683 : (Jvm.Cond.code ({ cls := "TermLogModel", name := "follows", desc := "(II)V" } : Jvm.MethodName) prog_18_method_66_code (3 : Nat) (Option.none : Option Jvm.ClassFile.FieldType)) ∈ lw_all := lw_g (lw_at lw_m7 86 rfl) rfl
theorem q1684 : (Jvm.Cond.methodLink "TermLogModel" (292 : Nat) ({ cls := "TermLogModel", name := "losesReads", desc := "(I)V" } : Jvm.MethodName)) ∈ lw_all := lw_g (lw_at lw_m7 87 rfl) rfl
theorem q1685 : (Jvm.Cond.privateMethod ({ cls := "TermLogModel", name := "losesReads", desc := "(I)V" } : Jvm.MethodName)) ∈ lw_tbl := lw_at lw_m7 88 rfl
theorem q1686 : (Jvm.Cond.instanceMethod ({ cls := "TermLogModel", name := "losesReads", desc := "(I)V" } : Jvm.MethodName)) ∈ lw_all := lw_g (lw_at lw_m7 89 rfl) rfl
theorem q1687 : (Jvm.Cond.code ({ cls := "TermLogModel", name := "losesReads", desc := "(I)V" } : Jvm.MethodName) prog_18_method_65_code (3 : Nat) (Option.none : Option Jvm.ClassFile.FieldType)) ∈ lw_all := lw_g (lw_at lw_m7 90 rfl) rfl
theorem q1688 : (Jvm.Cond.methodLink "TermLogModel" (350 : Nat) ({ cls := "TermLogModel", name := "isAskedToVote", desc := "(I)V" } : Jvm.MethodName)) ∈ lw_all := lw_g (lw_at lw_m7 91 rfl) rfl
theorem q1689 : (Jvm.Cond.privateMethod ({ cls := "TermLogModel", name := "isAskedToVote", desc := "(I)V" } : Jvm.MethodName)) ∈ lw_tbl := lw_at lw_m7 92 rfl
theorem q1690 : (Jvm.Cond.instanceMethod ({ cls := "TermLogModel", name := "isAskedToVote", desc := "(I)V" } : Jvm.MethodName)) ∈ lw_all := lw_g (lw_at lw_m7 93 rfl) rfl
theorem q1691 : (Jvm.Cond.code ({ cls := "TermLogModel", name := "isAskedToVote", desc := "(I)V" } : Jvm.MethodName) prog_18_method_82_code (5 : Nat) (Option.none : Option Jvm.ClassFile.FieldType)) ∈ lw_all := lw_g (lw_at lw_m7 94 rfl) rfl
theorem q1692 : (Jvm.Cond.methodLink "TermLogModel" (368 : Nat) ({ cls := "TermLogModel", name := "isNoLess", desc := "(III)Z" } : Jvm.MethodName)) ∈ lw_all := lw_g (lw_at lw_m7 95 rfl) rfl
theorem q1693 : (Jvm.Cond.privateMethod ({ cls := "TermLogModel", name := "isNoLess", desc := "(III)Z" } : Jvm.MethodName)) ∈ lw_tbl := lw_at lw_m7 96 rfl
theorem q1694 : (Jvm.Cond.instanceMethod ({ cls := "TermLogModel", name := "isNoLess", desc := "(III)Z" } : Jvm.MethodName)) ∈ lw_all := lw_g (lw_at lw_m7 97 rfl) rfl
theorem q1695 : (Jvm.Cond.code ({ cls := "TermLogModel", name := "isNoLess", desc := "(III)Z" } : Jvm.MethodName) prog_18_method_81_code (5 : Nat) (Option.some Jvm.ClassFile.FieldType.boolean)) ∈ lw_all := lw_g (lw_at lw_m7 98 rfl) rfl
theorem q1696 : (Jvm.Cond.methodLink "TermLogModel" (108 : Nat) ({ cls := "TermLogModel", name := "lastOf", desc := "(I)I" } : Jvm.MethodName)) ∈ lw_all := lw_g (lw_at lw_m7 99 rfl) rfl
theorem q1697 : (Jvm.Cond.privateMethod ({ cls := "TermLogModel", name := "lastOf", desc := "(I)I" } : Jvm.MethodName)) ∈ lw_tbl := lw_at lw_m7 100 rfl
theorem q1698 : (Jvm.Cond.instanceMethod ({ cls := "TermLogModel", name := "lastOf", desc := "(I)I" } : Jvm.MethodName)) ∈ lw_all := lw_g (lw_at lw_m7 101 rfl) rfl
theorem q1699 : (Jvm.Cond.code ({ cls := "TermLogModel", name := "lastOf", desc := "(I)I" } : Jvm.MethodName) prog_18_method_13_code (2 : Nat) (Option.some Jvm.ClassFile.FieldType.int)) ∈ lw_all := lw_g (lw_at lw_m7 102 rfl) rfl
theorem q1700 : (Jvm.Cond.methodLink "TermLogModel" (137 : Nat) ({ cls := "TermLogModel", name := "termAt", desc := "(II)I" } : Jvm.MethodName)) ∈ lw_all := lw_g (lw_at lw_m7 103 rfl) rfl
theorem q1701 : (Jvm.Cond.privateMethod ({ cls := "TermLogModel", name := "termAt", desc := "(II)I" } : Jvm.MethodName)) ∈ lw_tbl := lw_at lw_m7 104 rfl
theorem q1702 : (Jvm.Cond.instanceMethod ({ cls := "TermLogModel", name := "termAt", desc := "(II)I" } : Jvm.MethodName)) ∈ lw_all := lw_g (lw_at lw_m7 105 rfl) rfl
theorem q1703 : (Jvm.Cond.code ({ cls := "TermLogModel", name := "termAt", desc := "(II)I" } : Jvm.MethodName) prog_18_method_16_code (3 : Nat) (Option.some Jvm.ClassFile.FieldType.int)) ∈ lw_all := lw_g (lw_at lw_m7 106 rfl) rfl
theorem q1704 : (Jvm.Cond.methodLink "TermLogModel" (112 : Nat) ({ cls := "TermLogModel", name := "logPlace", desc := "(II)I" } : Jvm.MethodName)) ∈ lw_all := lw_g (lw_at lw_m7 107 rfl) rfl
theorem q1705 : (Jvm.Cond.privateMethod ({ cls := "TermLogModel", name := "logPlace", desc := "(II)I" } : Jvm.MethodName)) ∈ lw_tbl := lw_at lw_m7 108 rfl
theorem q1706 : (Jvm.Cond.instanceMethod ({ cls := "TermLogModel", name := "logPlace", desc := "(II)I" } : Jvm.MethodName)) ∈ lw_all := lw_g (lw_at lw_m7 109 rfl) rfl
theorem q1707 : (Jvm.Cond.code ({ cls := "TermLogModel", name := "logPlace", desc := "(II)I" } : Jvm.MethodName) prog_18_method_14_code (3 : Nat) (Option.some Jvm.ClassFile.FieldType.int)) ∈ lw_all := lw_g (lw_at lw_m7 110 rfl) rfl
theorem q1708 : (Jvm.Cond.methodLink "TermLogModel" (371 : Nat) ({ cls := "TermLogModel", name := "answersBy", desc := "(IIII)V" } : Jvm.MethodName)) ∈ lw_all := lw_g (lw_at lw_m7 111 rfl) rfl
theorem q1709 : (Jvm.Cond.privateMethod ({ cls := "TermLogModel", name := "answersBy", desc := "(IIII)V" } : Jvm.MethodName)) ∈ lw_tbl := lw_at lw_m7 112 rfl
theorem q1710 : (Jvm.Cond.instanceMethod ({ cls := "TermLogModel", name := "answersBy", desc := "(IIII)V" } : Jvm.MethodName)) ∈ lw_all := lw_g (lw_at lw_m7 113 rfl) rfl
theorem q1711 : (Jvm.Cond.code ({ cls := "TermLogModel", name := "answersBy", desc := "(IIII)V" } : Jvm.MethodName) prog_18_method_60_code (5 : Nat) (Option.none : Option Jvm.ClassFile.FieldType)) ∈ lw_all := lw_g (lw_at lw_m7 114 rfl) rfl
theorem q1712 : (Jvm.Cond.methodLink "TermLogModel" (271 : Nat) ({ cls := "TermLogModel", name := "beginsMail", desc := "(III)V" } : Jvm.MethodName)) ∈ lw_all := lw_g (lw_at lw_m7 115 rfl) rfl
theorem q1713 : (Jvm.Cond.privateMethod ({ cls := "TermLogModel", name := "beginsMail", desc := "(III)V" } : Jvm.MethodName)) ∈ lw_tbl := lw_at lw_m7 116 rfl
theorem q1714 : (Jvm.Cond.instanceMethod ({ cls := "TermLogModel", name := "beginsMail", desc := "(III)V" } : Jvm.MethodName)) ∈ lw_all := lw_g (lw_at lw_m7 117 rfl) rfl
theorem q1715 : (Jvm.Cond.code ({ cls := "TermLogModel", name := "beginsMail", desc := "(III)V" } : Jvm.MethodName) prog_18_method_57_code (5 : Nat) (Option.none : Option Jvm.ClassFile.FieldType)) ∈ lw_all := lw_g (lw_at lw_m7 118 rfl) rfl
theorem q1716 : (Jvm.Cond.methodLink "TermLogModel" (274 : Nat) ({ cls := "TermLogModel", name := "posts", desc := "()V" } : Jvm.MethodName)) ∈ lw_all := lw_g (lw_at lw_m7 119 rfl) rfl
theorem q1717 : (Jvm.Cond.privateMethod ({ cls := "TermLogModel", name := "posts", desc := "()V" } : Jvm.MethodName)) ∈ lw_tbl := lw_at lw_m7 120 rfl
theorem q1718 : (Jvm.Cond.instanceMethod ({ cls := "TermLogModel", name := "posts", desc := "()V" } : Jvm.MethodName)) ∈ lw_all := lw_g (lw_at lw_m7 121 rfl) rfl
theorem q1719 : (Jvm.Cond.code ({ cls := "TermLogModel", name := "posts", desc := "()V" } : Jvm.MethodName) prog_18_method_59_code (5 : Nat) (Option.none : Option Jvm.ClassFile.FieldType)) ∈ lw_all := lw_g (lw_at lw_m7 122 rfl) rfl
theorem q1720 : (Jvm.Cond.methodLink "TermLogModel" (265 : Nat) ({ cls := "TermLogModel", name := "holdsAny", desc := "(I)Z" } : Jvm.MethodName)) ∈ lw_all := lw_g (lw_at lw_m7 123 rfl) rfl
theorem q1721 : (Jvm.Cond.privateMethod ({ cls := "TermLogModel", name := "holdsAny", desc := "(I)Z" } : Jvm.MethodName)) ∈ lw_tbl := lw_at lw_m7 124 rfl
theorem q1722 : (Jvm.Cond.instanceMethod ({ cls := "TermLogModel", name := "holdsAny", desc := "(I)Z" } : Jvm.MethodName)) ∈ lw_all := lw_g (lw_at lw_m7 125 rfl) rfl
theorem q1723 : (Jvm.Cond.code ({ cls := "TermLogModel", name := "holdsAny", desc := "(I)Z" } : Jvm.MethodName) prog_18_method_54_code (3 : Nat) (Option.some Jvm.ClassFile.FieldType.boolean)) ∈ lw_all := lw_g (lw_at lw_m7 126 rfl) rfl
theorem q1724 : (Jvm.Cond.methodLink "TermLogModel" (353 : Nat) ({ cls := "TermLogModel", name := "hasVote", desc := "(I)V" } : Jvm.MethodName)) ∈ lw_all := lw_g (lw_at lw_m7 127 rfl) rfl
theorem q1725 : (Jvm.Cond.privateMethod ({ cls := "TermLogModel", name := "hasVote", desc := "(I)V" } : Jvm.MethodName)) ∈ lw_tbl := lw_at lw_m7 128 rfl
theorem q1726 : (Jvm.Cond.instanceMethod ({ cls := "TermLogModel", name := "hasVote", desc := "(I)V" } : Jvm.MethodName)) ∈ lw_all := lw_g (lw_at lw_m7 129 rfl) rfl
theorem q1727 : (Jvm.Cond.code ({ cls := "TermLogModel", name := "hasVote", desc := "(I)V" } : Jvm.MethodName) prog_18_method_83_code (2 : Nat) (Option.none : Option Jvm.ClassFile.FieldType)) ∈ lw_all := lw_g (lw_at lw_m7 130 rfl) rfl
theorem q1728 : (Jvm.Cond.methodLink "TermLogModel" (298 : Nat) ({ cls := "TermLogModel", name := "isMost", desc := "(II)Z" } : Jvm.MethodName)) ∈ lw_all := lw_g (lw_at lw_m7 131 rfl) rfl
theorem q1729 : (Jvm.Cond.privateMethod ({ cls := "TermLogModel", name := "isMost", desc := "(II)Z" } : Jvm.MethodName)) ∈ lw_tbl := lw_at lw_m7 132 rfl
theorem q1730 : (Jvm.Cond.instanceMethod ({ cls := "TermLogModel", name := "isMost", desc := "(II)Z" } : Jvm.MethodName)) ∈ lw_all := lw_g (lw_at lw_m7 133 rfl) rfl
theorem q1731 : (Jvm.Cond.code ({ cls := "TermLogModel", name := "isMost", desc := "(II)Z" } : Jvm.MethodName) prog_18_method_22_code (5 : Nat) (Option.some Jvm.ClassFile.FieldType.boolean)) ∈ lw_all := lw_g (lw_at lw_m7 134 rfl) rfl
theorem q1732 : (Jvm.Cond.methodLink "TermLogModel" (121 : Nat) ({ cls := "TermLogModel", name := "oldOf", desc := "(I)I" } : Jvm.MethodName)) ∈ lw_all := lw_g (lw_at lw_m7 135 rfl) rfl
theorem q1733 : (Jvm.Cond.privateMethod ({ cls := "TermLogModel", name := "oldOf", desc := "(I)I" } : Jvm.MethodName)) ∈ lw_tbl := lw_at lw_m7 136 rfl
theorem q1734 : (Jvm.Cond.instanceMethod ({ cls := "TermLogModel", name := "oldOf", desc := "(I)I" } : Jvm.MethodName)) ∈ lw_all := lw_g (lw_at lw_m7 137 rfl) rfl
theorem q1735 : (Jvm.Cond.code ({ cls := "TermLogModel", name := "oldOf", desc := "(I)I" } : Jvm.MethodName) prog_18_method_18_code (3 : Nat) (Option.some Jvm.ClassFile.FieldType.int)) ∈ lw_all := lw_g (lw_at lw_m7 138 rfl) rfl
theorem q1736 : (Jvm.Cond.methodLink "TermLogModel" (118 : Nat) ({ cls := "TermLogModel", name := "configAt", desc := "(II)I" } : Jvm.MethodName)) ∈ lw_all := lw_g (lw_at lw_m7 139 rfl) rfl
theorem q1737 : (Jvm.Cond.privateMethod ({ cls := "TermLogModel", name := "configAt", desc := "(II)I" } : Jvm.MethodName)) ∈ lw_tbl := lw_at lw_m7 140 rfl
theorem q1738 : (Jvm.Cond.instanceMethod ({ cls := "TermLogModel", name := "configAt", desc := "(II)I" } : Jvm.MethodName)) ∈ lw_all := lw_g (lw_at lw_m7 141 rfl) rfl
theorem q1739 : (Jvm.Cond.code ({ cls := "TermLogModel", name := "configAt", desc := "(II)I" } : Jvm.MethodName) prog_18_method_17_code (4 : Nat) (Option.some Jvm.ClassFile.FieldType.int)) ∈ lw_all := lw_g (lw_at lw_m7 142 rfl) rfl
theorem q1740 : (Jvm.Cond.methodLink "TermLogModel" (124 : Nat) ({ cls := "TermLogModel", name := "newOf", desc := "(I)I" } : Jvm.MethodName)) ∈ lw_all := lw_g (lw_at lw_m7 143 rfl) rfl
theorem q1741 : (Jvm.Cond.privateMethod ({ cls := "TermLogModel", name := "newOf", desc := "(I)I" } : Jvm.MethodName)) ∈ lw_tbl := lw_at lw_m7 144 rfl
theorem q1742 : (Jvm.Cond.instanceMethod ({ cls := "TermLogModel", name := "newOf", desc := "(I)I" } : Jvm.MethodName)) ∈ lw_all := lw_g (lw_at lw_m7 145 rfl) rfl
theorem q1743 : (Jvm.Cond.code ({ cls := "TermLogModel", name := "newOf", desc := "(I)I" } : Jvm.MethodName) prog_18_method_19_code (3 : Nat) (Option.some Jvm.ClassFile.FieldType.int)) ∈ lw_all := lw_g (lw_at lw_m7 146 rfl) rfl
theorem q1744 : (Jvm.Cond.methodLink "TermLogModel" (127 : Nat) ({ cls := "TermLogModel", name := "bits", desc := "(I)I" } : Jvm.MethodName)) ∈ lw_all := lw_g (lw_at lw_m7 147 rfl) rfl
theorem q1745 : (Jvm.Cond.static ({ cls := "TermLogModel", name := "bits", desc := "(I)I" } : Jvm.MethodName)) ∈ lw_all := lw_g (lw_at lw_m7 148 rfl) rfl
theorem q1746 : (Jvm.Cond.code ({ cls := "TermLogModel", name := "bits", desc := "(I)I" } : Jvm.MethodName) prog_18_method_6_code (3 : Nat) (Option.some Jvm.ClassFile.FieldType.int)) ∈ lw_all := lw_g (lw_at lw_m7 149 rfl) rfl
theorem q1747 : (Jvm.Cond.methodLink "TermLogModel" (301 : Nat) ({ cls := "TermLogModel", name := "leads", desc := "(I)V" } : Jvm.MethodName)) ∈ lw_all := lw_g (lw_at lw_m7 150 rfl) rfl
theorem q1748 : (Jvm.Cond.privateMethod ({ cls := "TermLogModel", name := "leads", desc := "(I)V" } : Jvm.MethodName)) ∈ lw_tbl := lw_at lw_m7 151 rfl
theorem q1749 : (Jvm.Cond.instanceMethod ({ cls := "TermLogModel", name := "leads", desc := "(I)V" } : Jvm.MethodName)) ∈ lw_all := lw_g (lw_at lw_m7 152 rfl) rfl
theorem q1750 : (Jvm.Cond.code ({ cls := "TermLogModel", name := "leads", desc := "(I)V" } : Jvm.MethodName) prog_18_method_68_code (4 : Nat) (Option.none : Option Jvm.ClassFile.FieldType)) ∈ lw_all := lw_g (lw_at lw_m7 153 rfl) rfl
theorem q1751 : (Jvm.Cond.methodLink "TermLogModel" (304 : Nat) ({ cls := "TermLogModel", name := "breaks", desc := "()V" } : Jvm.MethodName)) ∈ lw_all := lw_g (lw_at lw_m7 154 rfl) rfl
theorem q1752 : (Jvm.Cond.privateMethod ({ cls := "TermLogModel", name := "breaks", desc := "()V" } : Jvm.MethodName)) ∈ lw_tbl := lw_at lw_m7 155 rfl
theorem q1753 : (Jvm.Cond.instanceMethod ({ cls := "TermLogModel", name := "breaks", desc := "()V" } : Jvm.MethodName)) ∈ lw_all := lw_g (lw_at lw_m7 156 rfl) rfl
theorem q1754 : (Jvm.Cond.code ({ cls := "TermLogModel", name := "breaks", desc := "()V" } : Jvm.MethodName) prog_18_method_70_code (1 : Nat) (Option.none : Option Jvm.ClassFile.FieldType)) ∈ lw_all := lw_g (lw_at lw_m7 157 rfl) rfl
theorem q1755 : (Jvm.Cond.methodLink "TermLogModel" (307 : Nat) ({ cls := "TermLogModel", name := "lays", desc := "(IIIII)Z" } : Jvm.MethodName)) ∈ lw_all := lw_g (lw_at lw_m7 158 rfl) rfl
theorem q1756 : (Jvm.Cond.privateMethod ({ cls := "TermLogModel", name := "lays", desc := "(IIIII)Z" } : Jvm.MethodName)) ∈ lw_tbl := lw_at lw_m7 159 rfl
theorem q1757 : (Jvm.Cond.instanceMethod ({ cls := "TermLogModel", name := "lays", desc := "(IIIII)Z" } : Jvm.MethodName)) ∈ lw_all := lw_g (lw_at lw_m7 160 rfl) rfl
theorem q1758 : (Jvm.Cond.code ({ cls := "TermLogModel", name := "lays", desc := "(IIIII)Z" } : Jvm.MethodName) prog_18_method_25_code (7 : Nat) (Option.some Jvm.ClassFile.FieldType.boolean)) ∈ lw_all := lw_g (lw_at lw_m7 161 rfl) rfl
theorem q1759 : (Jvm.Cond.methodLink "TermLogModel" (144 : Nat) ({ cls := "TermLogModel", name := "compacts", desc := "(I)V" } : Jvm.MethodName)) ∈ lw_all := lw_g (lw_at lw_m7 162 rfl) rfl
theorem q1760 : (Jvm.Cond.privateMethod ({ cls := "TermLogModel", name := "compacts", desc := "(I)V" } : Jvm.MethodName)) ∈ lw_tbl := lw_at lw_m7 163 rfl
theorem q1761 : (Jvm.Cond.instanceMethod ({ cls := "TermLogModel", name := "compacts", desc := "(I)V" } : Jvm.MethodName)) ∈ lw_all := lw_g (lw_at lw_m7 164 rfl) rfl
theorem q1762 : (Jvm.Cond.code ({ cls := "TermLogModel", name := "compacts", desc := "(I)V" } : Jvm.MethodName) prog_18_method_24_code (6 : Nat) (Option.none : Option Jvm.ClassFile.FieldType)) ∈ lw_all := lw_g (lw_at lw_m7 165 rfl) rfl
theorem q1763 : (Jvm.Cond.methodLink "TermLogModel" (140 : Nat) ({ cls := "TermLogModel", name := "goesUpTo", desc := "(II)V" } : Jvm.MethodName)) ∈ lw_all := lw_g (lw_at lw_m7 166 rfl) rfl
theorem q1764 : (Jvm.Cond.privateMethod ({ cls := "TermLogModel", name := "goesUpTo", desc := "(II)V" } : Jvm.MethodName)) ∈ lw_tbl := lw_at lw_m7 167 rfl
theorem q1765 : (Jvm.Cond.instanceMethod ({ cls := "TermLogModel", name := "goesUpTo", desc := "(II)V" } : Jvm.MethodName)) ∈ lw_all := lw_g (lw_at lw_m7 168 rfl) rfl
theorem q1766 : (Jvm.Cond.code ({ cls := "TermLogModel", name := "goesUpTo", desc := "(II)V" } : Jvm.MethodName) prog_18_method_23_code (6 : Nat) (Option.none : Option Jvm.ClassFile.FieldType)) ∈ lw_all := lw_g (lw_at lw_m7 169 rfl) rfl
theorem q1767 : (Jvm.Cond.methodLink "TermLogModel" (130 : Nat) ({ cls := "TermLogModel", name := "max", desc := "(II)I" } : Jvm.MethodName)) ∈ lw_all := lw_g (lw_at lw_m7 170 rfl) rfl
theorem q1768 : (Jvm.Cond.static ({ cls := "TermLogModel", name := "max", desc := "(II)I" } : Jvm.MethodName)) ∈ lw_all := lw_g (lw_at lw_m7 171 rfl) rfl
theorem q1769 : (Jvm.Cond.code ({ cls := "TermLogModel", name := "max", desc := "(II)I" } : Jvm.MethodName) prog_18_method_4_code (2 : Nat) (Option.some Jvm.ClassFile.FieldType.int)) ∈ lw_all := lw_g (lw_at lw_m7 172 rfl) rfl
theorem q1770 : (Jvm.Cond.methodLink "TermLogModel" (311 : Nat) ({ cls := "TermLogModel", name := "laidByLeader", desc := "(I)V" } : Jvm.MethodName)) ∈ lw_all := lw_g (lw_at lw_m7 173 rfl) rfl
theorem q1771 : (Jvm.Cond.privateMethod ({ cls := "TermLogModel", name := "laidByLeader", desc := "(I)V" } : Jvm.MethodName)) ∈ lw_tbl := lw_at lw_m7 174 rfl
theorem q1772 : (Jvm.Cond.instanceMethod ({ cls := "TermLogModel", name := "laidByLeader", desc := "(I)V" } : Jvm.MethodName)) ∈ lw_all := lw_g (lw_at lw_m7 175 rfl) rfl
theorem q1773 : (Jvm.Cond.code ({ cls := "TermLogModel", name := "laidByLeader", desc := "(I)V" } : Jvm.MethodName) prog_18_method_69_code (2 : Nat) (Option.none : Option Jvm.ClassFile.FieldType)) ∈ lw_all := lw_g (lw_at lw_m7 176 rfl) rfl
theorem q1774 : (Jvm.Cond.methodLink "TermLogModel" (314 : Nat) ({ cls := "TermLogModel", name := "sendsToAll", desc := "(I)V" } : Jvm.MethodName)) ∈ lw_all := lw_g (lw_at lw_m7 177 rfl) rfl
theorem q1775 : (Jvm.Cond.privateMethod ({ cls := "TermLogModel", name := "sendsToAll", desc := "(I)V" } : Jvm.MethodName)) ∈ lw_tbl := lw_at lw_m7 178 rfl
theorem q1776 : (Jvm.Cond.instanceMethod ({ cls := "TermLogModel", name := "sendsToAll", desc := "(I)V" } : Jvm.MethodName)) ∈ lw_all := lw_g (lw_at lw_m7 179 rfl) rfl
theorem q1777 : (Jvm.Cond.code ({ cls := "TermLogModel", name := "sendsToAll", desc := "(I)V" } : Jvm.MethodName) prog_18_method_64_code (3 : Nat) (Option.none : Option Jvm.ClassFile.FieldType)) ∈ lw_all := lw_g (lw_at lw_m7 180 rfl) rfl
theorem q1778 : (Jvm.Cond.methodLink "TermLogModel" (283 : Nat) ({ cls := "TermLogModel", name := "membersOf", desc := "(I)I" } : Jvm.MethodName)) ∈ lw_all := lw_g (lw_at lw_m7 181 rfl) rfl
theorem q1779 : (Jvm.Cond.privateMethod ({ cls := "TermLogModel", name := "membersOf", desc := "(I)I" } : Jvm.MethodName)) ∈ lw_tbl := lw_at lw_m7 182 rfl
theorem q1780 : (Jvm.Cond.instanceMethod ({ cls := "TermLogModel", name := "membersOf", desc := "(I)I" } : Jvm.MethodName)) ∈ lw_all := lw_g (lw_at lw_m7 183 rfl) rfl
theorem q1781 : (Jvm.Cond.code ({ cls := "TermLogModel", name := "membersOf", desc := "(I)I" } : Jvm.MethodName) prog_18_method_20_code (2 : Nat) (Option.some Jvm.ClassFile.FieldType.int)) ∈ lw_all := lw_g (lw_at lw_m7 184 rfl) rfl
theorem q1782 : (Jvm.Cond.methodLink "TermLogModel" (289 : Nat) ({ cls := "TermLogModel", name := "sendsOn", desc := "(II)V" } : Jvm.MethodName)) ∈ lw_all := lw_g (lw_at lw_m7 185 rfl) rfl
theorem q1783 : (Jvm.Cond.privateMethod ({ cls := "TermLogModel", name := "sendsOn", desc := "(II)V" } : Jvm.MethodName)) ∈ lw_tbl := lw_at lw_m7 186 rfl
theorem q1784 : (Jvm.Cond.instanceMethod ({ cls := "TermLogModel", name := "sendsOn", desc := "(II)V" } : Jvm.MethodName)) ∈ lw_all := lw_g (lw_at lw_m7 187 rfl) rfl
theorem q1785 : (Jvm.Cond.code ({ cls := "TermLogModel", name := "sendsOn", desc := "(II)V" } : Jvm.MethodName) prog_18_method_61_code (5 : Nat) (Option.none : Option Jvm.ClassFile.FieldType)) ∈ lw_all := lw_g (lw_at lw_m7 188 rfl) rfl
theorem q1786 : (Jvm.Cond.methodLink "TermLogModel" (277 : Nat) ({ cls := "TermLogModel", name := "tellsSnapshot", desc := "(I)V" } : Jvm.MethodName)) ∈ lw_all := lw_g (lw_at lw_m7 189 rfl) rfl
theorem q1787 : (Jvm.Cond.privateMethod ({ cls := "TermLogModel", name := "tellsSnapshot", desc := "(I)V" } : Jvm.MethodName)) ∈ lw_tbl := lw_at lw_m7 190 rfl
theorem q1788 : (Jvm.Cond.instanceMethod ({ cls := "TermLogModel", name := "tellsSnapshot", desc := "(I)V" } : Jvm.MethodName)) ∈ lw_all := lw_g (lw_at lw_m7 191 rfl) rfl
theorem q1789 : (Jvm.Cond.code ({ cls := "TermLogModel", name := "tellsSnapshot", desc := "(I)V" } : Jvm.MethodName) prog_18_method_62_code (3 : Nat) (Option.none : Option Jvm.ClassFile.FieldType)) ∈ lw_all := lw_g (lw_at lw_m7 192 rfl) rfl
theorem q1790 : (Jvm.Cond.methodLink "TermLogModel" (280 : Nat) ({ cls := "TermLogModel", name := "tellsEntries", desc := "(II)V" } : Jvm.MethodName)) ∈ lw_all := lw_g (lw_at lw_m7 193 rfl) rfl
theorem q1791 : (Jvm.Cond.privateMethod ({ cls := "TermLogModel", name := "tellsEntries", desc := "(II)V" } : Jvm.MethodName)) ∈ lw_tbl := lw_at lw_m7 194 rfl
theorem q1792 : (Jvm.Cond.instanceMethod ({ cls := "TermLogModel", name := "tellsEntries", desc := "(II)V" } : Jvm.MethodName)) ∈ lw_all := lw_g (lw_at lw_m7 195 rfl) rfl
theorem q1793 : (Jvm.Cond.code ({ cls := "TermLogModel", name := "tellsEntries", desc := "(II)V" } : Jvm.MethodName) prog_18_method_63_code (5 : Nat) (Option.none : Option Jvm.ClassFile.FieldType)) ∈ lw_all := lw_g (lw_at lw_m7 196 rfl) rfl
theorem q1794 : (Jvm.Cond.methodLink "TermLogModel" (317 : Nat) ({ cls := "TermLogModel", name := "holds", desc := "(I)V" } : Jvm.MethodName)) ∈ lw_all := lw_g (lw_at lw_m7 197 rfl) rfl
theorem q1795 : (Jvm.Cond.privateMethod ({ cls := "TermLogModel", name := "holds", desc := "(I)V" } : Jvm.MethodName)) ∈ lw_tbl := lw_at lw_m7 198 rfl
theorem q1796 : (Jvm.Cond.instanceMethod ({ cls := "TermLogModel", name := "holds", desc := "(I)V" } : Jvm.MethodName)) ∈ lw_all := lw_g (lw_at lw_m7 199 rfl) rfl
theorem q1797 : (Jvm.Cond.code ({ cls := "TermLogModel", name := "holds", desc := "(I)V" } : Jvm.MethodName) prog_18_method_75_code (4 : Nat) (Option.none : Option Jvm.ClassFile.FieldType)) ∈ lw_all := lw_g (lw_at lw_m7 200 rfl) rfl
theorem q1798 : (Jvm.Cond.methodLink "TermLogModel" (332 : Nat) ({ cls := "TermLogModel", name := "mostHeld", desc := "(I)I" } : Jvm.MethodName)) ∈ lw_all := lw_g (lw_at lw_m7 201 rfl) rfl
theorem q1799 : (Jvm.Cond.privateMethod ({ cls := "TermLogModel", name := "mostHeld", desc := "(I)I" } : Jvm.MethodName)) ∈ lw_tbl := lw_at lw_m7 202 rfl
theorem q1800 : (Jvm.Cond.instanceMethod ({ cls := "TermLogModel", name := "mostHeld", desc := "(I)I" } : Jvm.MethodName)) ∈ lw_all := lw_g (lw_at lw_m7 203 rfl) rfl
theorem q1801 : (Jvm.Cond.code ({ cls := "TermLogModel", name := "mostHeld", desc := "(I)I" } : Jvm.MethodName) prog_18_method_74_code (3 : Nat) (Option.some Jvm.ClassFile.FieldType.int)) ∈ lw_all := lw_g (lw_at lw_m7 204 rfl) rfl
theorem q1802 : (Jvm.Cond.methodLink "TermLogModel" (329 : Nat) ({ cls := "TermLogModel", name := "whoMatch", desc := "(II)I" } : Jvm.MethodName)) ∈ lw_all := lw_g (lw_at lw_m7 205 rfl) rfl
theorem q1803 : (Jvm.Cond.privateMethod ({ cls := "TermLogModel", name := "whoMatch", desc := "(II)I" } : Jvm.MethodName)) ∈ lw_tbl := lw_at lw_m7 206 rfl
theorem q1804 : (Jvm.Cond.instanceMethod ({ cls := "TermLogModel", name := "whoMatch", desc := "(II)I" } : Jvm.MethodName)) ∈ lw_all := lw_g (lw_at lw_m7 207 rfl) rfl
theorem q1805 : (Jvm.Cond.code ({ cls := "TermLogModel", name := "whoMatch", desc := "(II)I" } : Jvm.MethodName) prog_18_method_73_code (5 : Nat) (Option.some Jvm.ClassFile.FieldType.int)) ∈ lw_all := lw_g (lw_at lw_m7 208 rfl) rfl
theorem q1806 : (Jvm.Cond.methodLink "TermLogModel" (335 : Nat) ({ cls := "TermLogModel", name := "growsCommit", desc := "(II)V" } : Jvm.MethodName)) ∈ lw_all := lw_g (lw_at lw_m7 209 rfl) rfl
theorem q1807 : (Jvm.Cond.privateMethod ({ cls := "TermLogModel", name := "growsCommit", desc := "(II)V" } : Jvm.MethodName)) ∈ lw_tbl := lw_at lw_m7 210 rfl
theorem q1808 : (Jvm.Cond.instanceMethod ({ cls := "TermLogModel", name := "growsCommit", desc := "(II)V" } : Jvm.MethodName)) ∈ lw_all := lw_g (lw_at lw_m7 211 rfl) rfl
theorem q1809 : (Jvm.Cond.code ({ cls := "TermLogModel", name := "growsCommit", desc := "(II)V" } : Jvm.MethodName) prog_18_method_72_code (4 : Nat) (Option.none : Option Jvm.ClassFile.FieldType)) ∈ lw_all := lw_g (lw_at lw_m7 212 rfl) rfl
theorem q1810 : (Jvm.Cond.methodLink "TermLogModel" (323 : Nat) ({ cls := "TermLogModel", name := "hasEntry", desc := "(II)Z" } : Jvm.MethodName)) ∈ lw_all := lw_g (lw_at lw_m7 213 rfl) rfl
theorem q1811 : (Jvm.Cond.privateMethod ({ cls := "TermLogModel", name := "hasEntry", desc := "(II)Z" } : Jvm.MethodName)) ∈ lw_tbl := lw_at lw_m7 214 rfl
theorem q1812 : (Jvm.Cond.instanceMethod ({ cls := "TermLogModel", name := "hasEntry", desc := "(II)Z" } : Jvm.MethodName)) ∈ lw_all := lw_g (lw_at lw_m7 215 rfl) rfl
theorem q1813 : (Jvm.Cond.code ({ cls := "TermLogModel", name := "hasEntry", desc := "(II)Z" } : Jvm.MethodName) prog_18_method_15_code (3 : Nat) (Option.some Jvm.ClassFile.FieldType.boolean)) ∈ lw_all := lw_g (lw_at lw_m7 216 rfl) rfl
theorem q1814 : (Jvm.Cond.methodLink "TermLogModel" (326 : Nat) ({ cls := "TermLogModel", name := "seesHeld", desc := "(II)V" } : Jvm.MethodName)) ∈ lw_all := lw_g (lw_at lw_m7 217 rfl) rfl
theorem q1815 : (Jvm.Cond.privateMethod ({ cls := "TermLogModel", name := "seesHeld", desc := "(II)V" } : Jvm.MethodName)) ∈ lw_tbl := lw_at lw_m7 218 rfl
theorem q1816 : (Jvm.Cond.instanceMethod ({ cls := "TermLogModel", name := "seesHeld", desc := "(II)V" } : Jvm.MethodName)) ∈ lw_all := lw_g (lw_at lw_m7 219 rfl) rfl
theorem q1817 : (Jvm.Cond.code ({ cls := "TermLogModel", name := "seesHeld", desc := "(II)V" } : Jvm.MethodName) prog_18_method_71_code (7 : Nat) (Option.none : Option Jvm.ClassFile.FieldType)) ∈ lw_all := lw_g (lw_at lw_m7 220 rfl) rfl
theorem q1818 : (Jvm.Cond.methodLink "TermLogModel" (338 : Nat) ({ cls := "TermLogModel", name := "isHeldConfig", desc := "(I)Z" } : Jvm.MethodName)) ∈ lw_all := lw_g (lw_at lw_m7 221 rfl) rfl
theorem q1819 : (Jvm.Cond.privateMethod ({ cls := "TermLogModel", name := "isHeldConfig", desc := "(I)Z" } : Jvm.MethodName)) ∈ lw_tbl := lw_at lw_m7 222 rfl
theorem q1820 : (Jvm.Cond.instanceMethod ({ cls := "TermLogModel", name := "isHeldConfig", desc := "(I)Z" } : Jvm.MethodName)) ∈ lw_all := lw_g (lw_at lw_m7 223 rfl) rfl
theorem q1821 : (Jvm.Cond.code ({ cls := "TermLogModel", name := "isHeldConfig", desc := "(I)Z" } : Jvm.MethodName) prog_18_method_21_code (2 : Nat) (Option.some Jvm.ClassFile.FieldType.boolean)) ∈ lw_all := lw_g (lw_at lw_m7 224 rfl) rfl
theorem q1822 : (Jvm.Cond.methodLink "TermLogModel" (356 : Nat) ({ cls := "TermLogModel", name := "hasEntries", desc := "(I)V" } : Jvm.MethodName)) ∈ lw_all := lw_g (lw_at lw_m7 225 rfl) rfl
theorem q1823 : (Jvm.Cond.privateMethod ({ cls := "TermLogModel", name := "hasEntries", desc := "(I)V" } : Jvm.MethodName)) ∈ lw_tbl := lw_at lw_m7 226 rfl
theorem q1824 : (Jvm.Cond.instanceMethod ({ cls := "TermLogModel", name := "hasEntries", desc := "(I)V" } : Jvm.MethodName)) ∈ lw_all := lw_g (lw_at lw_m7 227 rfl) rfl
theorem q1825 : (Jvm.Cond.code ({ cls := "TermLogModel", name := "hasEntries", desc := "(I)V" } : Jvm.MethodName) prog_18_method_85_code (5 : Nat) (Option.none : Option Jvm.ClassFile.FieldType)) ∈ lw_all := lw_g (lw_at lw_m7 228 rfl) rfl
theorem q1826 : (Jvm.Cond.methodLink "TermLogModel" (375 : Nat) ({ cls := "TermLogModel", name := "firstOfTerm", desc := "(II)I" } : Jvm.MethodName)) ∈ lw_all := lw_g (lw_at lw_m7 229 rfl) rfl
theorem q1827 : (Jvm.Cond.privateMethod ({ cls := "TermLogModel", name := "firstOfTerm", desc := "(II)I" } : Jvm.MethodName)) ∈ lw_tbl := lw_at lw_m7 230 rfl
theorem q1828 : (Jvm.Cond.instanceMethod ({ cls := "TermLogModel", name := "firstOfTerm", desc := "(II)I" } : Jvm.MethodName)) ∈ lw_all := lw_g (lw_at lw_m7 231 rfl) rfl
theorem q1829 : (Jvm.Cond.code ({ cls := "TermLogModel", name := "firstOfTerm", desc := "(II)I" } : Jvm.MethodName) prog_18_method_84_code (4 : Nat) (Option.some Jvm.ClassFile.FieldType.int)) ∈ lw_all := lw_g (lw_at lw_m7 232 rfl) rfl
theorem q1830 : (Jvm.Cond.methodLink "TermLogModel" (378 : Nat) ({ cls := "TermLogModel", name := "laysAs", desc := "(III)Z" } : Jvm.MethodName)) ∈ lw_all := lw_g (lw_at lw_m7 233 rfl) rfl
theorem q1831 : (Jvm.Cond.privateMethod ({ cls := "TermLogModel", name := "laysAs", desc := "(III)Z" } : Jvm.MethodName)) ∈ lw_tbl := lw_at lw_m7 234 rfl
theorem q1832 : (Jvm.Cond.instanceMethod ({ cls := "TermLogModel", name := "laysAs", desc := "(III)Z" } : Jvm.MethodName)) ∈ lw_all := lw_g (lw_at lw_m7 235 rfl) rfl
theorem q1833 : (Jvm.Cond.code ({ cls := "TermLogModel", name := "laysAs", desc := "(III)Z" } : Jvm.MethodName) prog_18_method_86_code (4 : Nat) (Option.some Jvm.ClassFile.FieldType.boolean)) ∈ lw_all := lw_g (lw_at lw_m7 236 rfl) rfl
theorem q1834 : (Jvm.Cond.methodLink "TermLogModel" (359 : Nat) ({ cls := "TermLogModel", name := "hearsOfEntries", desc := "(I)V" } : Jvm.MethodName)) ∈ lw_all := lw_g (lw_at lw_m7 237 rfl) rfl
theorem q1835 : (Jvm.Cond.privateMethod ({ cls := "TermLogModel", name := "hearsOfEntries", desc := "(I)V" } : Jvm.MethodName)) ∈ lw_tbl := lw_at lw_m7 238 rfl
theorem q1836 : (Jvm.Cond.instanceMethod ({ cls := "TermLogModel", name := "hearsOfEntries", desc := "(I)V" } : Jvm.MethodName)) ∈ lw_all := lw_g (lw_at lw_m7 239 rfl) rfl
theorem q1837 : (Jvm.Cond.code ({ cls := "TermLogModel", name := "hearsOfEntries", desc := "(I)V" } : Jvm.MethodName) prog_18_method_89_code (3 : Nat) (Option.none : Option Jvm.ClassFile.FieldType)) ∈ lw_all := lw_g (lw_at lw_m8 0 rfl) rfl
theorem q1838 : (Jvm.Cond.methodLink "TermLogModel" (381 : Nat) ({ cls := "TermLogModel", name := "isOfLeader", desc := "(I)Z" } : Jvm.MethodName)) ∈ lw_all := lw_g (lw_at lw_m8 1 rfl) rfl
theorem q1839 : (Jvm.Cond.privateMethod ({ cls := "TermLogModel", name := "isOfLeader", desc := "(I)Z" } : Jvm.MethodName)) ∈ lw_tbl := lw_at lw_m8 2 rfl
theorem q1840 : (Jvm.Cond.instanceMethod ({ cls := "TermLogModel", name := "isOfLeader", desc := "(I)Z" } : Jvm.MethodName)) ∈ lw_all := lw_g (lw_at lw_m8 3 rfl) rfl
theorem q1841 : (Jvm.Cond.code ({ cls := "TermLogModel", name := "isOfLeader", desc := "(I)Z" } : Jvm.MethodName) prog_18_method_87_code (3 : Nat) (Option.some Jvm.ClassFile.FieldType.boolean)) ∈ lw_all := lw_g (lw_at lw_m8 4 rfl) rfl
theorem q1842 : (Jvm.Cond.methodLink "TermLogModel" (384 : Nat) ({ cls := "TermLogModel", name := "matches", desc := "(II)V" } : Jvm.MethodName)) ∈ lw_all := lw_g (lw_at lw_m8 5 rfl) rfl
theorem q1843 : (Jvm.Cond.privateMethod ({ cls := "TermLogModel", name := "matches", desc := "(II)V" } : Jvm.MethodName)) ∈ lw_tbl := lw_at lw_m8 6 rfl
theorem q1844 : (Jvm.Cond.instanceMethod ({ cls := "TermLogModel", name := "matches", desc := "(II)V" } : Jvm.MethodName)) ∈ lw_all := lw_g (lw_at lw_m8 7 rfl) rfl
theorem q1845 : (Jvm.Cond.code ({ cls := "TermLogModel", name := "matches", desc := "(II)V" } : Jvm.MethodName) prog_18_method_88_code (4 : Nat) (Option.none : Option Jvm.ClassFile.FieldType)) ∈ lw_all := lw_g (lw_at lw_m8 8 rfl) rfl
theorem q1846 : (Jvm.Cond.methodLink "TermLogModel" (387 : Nat) ({ cls := "TermLogModel", name := "answersReads", desc := "(I)V" } : Jvm.MethodName)) ∈ lw_all := lw_g (lw_at lw_m8 9 rfl) rfl
theorem q1847 : (Jvm.Cond.privateMethod ({ cls := "TermLogModel", name := "answersReads", desc := "(I)V" } : Jvm.MethodName)) ∈ lw_tbl := lw_at lw_m8 10 rfl
theorem q1848 : (Jvm.Cond.instanceMethod ({ cls := "TermLogModel", name := "answersReads", desc := "(I)V" } : Jvm.MethodName)) ∈ lw_all := lw_g (lw_at lw_m8 11 rfl) rfl
theorem q1849 : (Jvm.Cond.code ({ cls := "TermLogModel", name := "answersReads", desc := "(I)V" } : Jvm.MethodName) prog_18_method_77_code (4 : Nat) (Option.none : Option Jvm.ClassFile.FieldType)) ∈ lw_all := lw_g (lw_at lw_m8 12 rfl) rfl
theorem q1850 : (Jvm.Cond.methodLink "TermLogModel" (344 : Nat) ({ cls := "TermLogModel", name := "whoHeard", desc := "(II)I" } : Jvm.MethodName)) ∈ lw_all := lw_g (lw_at lw_m8 13 rfl) rfl
theorem q1851 : (Jvm.Cond.privateMethod ({ cls := "TermLogModel", name := "whoHeard", desc := "(II)I" } : Jvm.MethodName)) ∈ lw_tbl := lw_at lw_m8 14 rfl
theorem q1852 : (Jvm.Cond.instanceMethod ({ cls := "TermLogModel", name := "whoHeard", desc := "(II)I" } : Jvm.MethodName)) ∈ lw_all := lw_g (lw_at lw_m8 15 rfl) rfl
theorem q1853 : (Jvm.Cond.code ({ cls := "TermLogModel", name := "whoHeard", desc := "(II)I" } : Jvm.MethodName) prog_18_method_76_code (5 : Nat) (Option.some Jvm.ClassFile.FieldType.int)) ∈ lw_all := lw_g (lw_at lw_m8 16 rfl) rfl
theorem q1854 : (Jvm.Cond.methodLink "TermLogModel" (362 : Nat) ({ cls := "TermLogModel", name := "hasSnapshot", desc := "(I)V" } : Jvm.MethodName)) ∈ lw_all := lw_g (lw_at lw_m8 17 rfl) rfl
theorem q1855 : (Jvm.Cond.privateMethod ({ cls := "TermLogModel", name := "hasSnapshot", desc := "(I)V" } : Jvm.MethodName)) ∈ lw_tbl := lw_at lw_m8 18 rfl
theorem q1856 : (Jvm.Cond.instanceMethod ({ cls := "TermLogModel", name := "hasSnapshot", desc := "(I)V" } : Jvm.MethodName)) ∈ lw_all := lw_g (lw_at lw_m8 19 rfl) rfl
theorem q1857 : (Jvm.Cond.code ({ cls := "TermLogModel", name := "hasSnapshot", desc := "(I)V" } : Jvm.MethodName) prog_18_method_90_code (4 : Nat) (Option.none : Option Jvm.ClassFile.FieldType)) ∈ lw_all := lw_g (lw_at lw_m8 20 rfl) rfl
theorem q1858 : (Jvm.Cond.methodLink "TermLogModel" (365 : Nat) ({ cls := "TermLogModel", name := "hearsOfSnapshot", desc := "(I)V" } : Jvm.MethodName)) ∈ lw_all := lw_g (lw_at lw_m8 21 rfl) rfl
theorem q1859 : (Jvm.Cond.privateMethod ({ cls := "TermLogModel", name := "hearsOfSnapshot", desc := "(I)V" } : Jvm.MethodName)) ∈ lw_tbl := lw_at lw_m8 22 rfl
theorem q1860 : (Jvm.Cond.instanceMethod ({ cls := "TermLogModel", name := "hearsOfSnapshot", desc := "(I)V" } : Jvm.MethodName)) ∈ lw_all := lw_g (lw_at lw_m8 23 rfl) rfl
theorem q1861 : (Jvm.Cond.code ({ cls := "TermLogModel", name := "hearsOfSnapshot", desc := "(I)V" } : Jvm.MethodName) prog_18_method_91_code (2 : Nat) (Option.none : Option Jvm.ClassFile.FieldType)) ∈ lw_all := lw_g (lw_at lw_m8 24 rfl) rfl
theorem q1862 : (Jvm.Cond.methodLink "TermLogModel" (396 : Nat) ({ cls := "TermLogModel", name := "nodeGoes", desc := "(I)V" } : Jvm.MethodName)) ∈ lw_all := lw_g (lw_at lw_m8 25 rfl) rfl
theorem q1863 : (Jvm.Cond.privateMethod ({ cls := "TermLogModel", name := "nodeGoes", desc := "(I)V" } : Jvm.MethodName)) ∈ lw_tbl := lw_at lw_m8 26 rfl
theorem q1864 : (Jvm.Cond.instanceMethod ({ cls := "TermLogModel", name := "nodeGoes", desc := "(I)V" } : Jvm.MethodName)) ∈ lw_all := lw_g (lw_at lw_m8 27 rfl) rfl
theorem q1865 : (Jvm.Cond.code ({ cls := "TermLogModel", name := "nodeGoes", desc := "(I)V" } : Jvm.MethodName) prog_18_method_93_code (2 : Nat) (Option.none : Option Jvm.ClassFile.FieldType)) ∈ lw_all := lw_g (lw_at lw_m8 28 rfl) rfl
theorem q1866 : (Jvm.Cond.methodLink "TermLogModel" (399 : Nat) ({ cls := "TermLogModel", name := "stands", desc := "(I)V" } : Jvm.MethodName)) ∈ lw_all := lw_g (lw_at lw_m8 29 rfl) rfl
theorem q1867 : (Jvm.Cond.privateMethod ({ cls := "TermLogModel", name := "stands", desc := "(I)V" } : Jvm.MethodName)) ∈ lw_tbl := lw_at lw_m8 30 rfl
theorem q1868 : (Jvm.Cond.instanceMethod ({ cls := "TermLogModel", name := "stands", desc := "(I)V" } : Jvm.MethodName)) ∈ lw_all := lw_g (lw_at lw_m8 31 rfl) rfl
theorem q1869 : (Jvm.Cond.code ({ cls := "TermLogModel", name := "stands", desc := "(I)V" } : Jvm.MethodName) prog_18_method_67_code (3 : Nat) (Option.none : Option Jvm.ClassFile.FieldType)) ∈ lw_all := lw_g (lw_at lw_m8 32 rfl) rfl
theorem q1870 : (Jvm.Cond.methodLink "TermLogModel" (402 : Nat) ({ cls := "TermLogModel", name := "asksAll", desc := "(I)V" } : Jvm.MethodName)) ∈ lw_all := lw_g (lw_at lw_m8 33 rfl) rfl
theorem q1871 : (Jvm.Cond.privateMethod ({ cls := "TermLogModel", name := "asksAll", desc := "(I)V" } : Jvm.MethodName)) ∈ lw_tbl := lw_at lw_m8 34 rfl
theorem q1872 : (Jvm.Cond.instanceMethod ({ cls := "TermLogModel", name := "asksAll", desc := "(I)V" } : Jvm.MethodName)) ∈ lw_all := lw_g (lw_at lw_m8 35 rfl) rfl
theorem q1873 : (Jvm.Cond.code ({ cls := "TermLogModel", name := "asksAll", desc := "(I)V" } : Jvm.MethodName) prog_18_method_94_code (2 : Nat) (Option.none : Option Jvm.ClassFile.FieldType)) ∈ lw_all := lw_g (lw_at lw_m8 36 rfl) rfl
theorem q1875 : (Jvm.Cond.instanceMethod ({ cls := "TermLogModel", name := "found", desc := "(I)Z" } : Jvm.MethodName)) ∈ lw_all := lw_g (lw_at lw_m8 38 rfl) rfl
theorem q1876 : (Jvm.Cond.selects "TermLogModel" ({ cls := "TermLogModel", name := "found", desc := "(I)Z" } : Jvm.MethodName) ({ cls := "TermLogModel", name := "found", desc := "(I)Z" } : Jvm.MethodName)) ∈ lw_all := lw_g (lw_at lw_m8 39 rfl) rfl
theorem q1877 : (Jvm.Cond.code ({ cls := "TermLogModel", name := "found", desc := "(I)Z" } : Jvm.MethodName) prog_18_method_99_code (2 : Nat) (Option.some Jvm.ClassFile.FieldType.boolean)) ∈ lw_all := lw_g (lw_at lw_m8 40 rfl) rfl
theorem q1879 : (Jvm.Cond.instanceMethod ({ cls := "TermLogModel", name := "crash", desc := "(I)Z" } : Jvm.MethodName)) ∈ lw_all := lw_g (lw_at lw_m8 42 rfl) rfl
theorem q1880 : (Jvm.Cond.selects "TermLogModel" ({ cls := "TermLogModel", name := "crash", desc := "(I)Z" } : Jvm.MethodName) ({ cls := "TermLogModel", name := "crash", desc := "(I)Z" } : Jvm.MethodName)) ∈ lw_all := lw_g (lw_at lw_m8 43 rfl) rfl
theorem q1881 : (Jvm.Cond.code ({ cls := "TermLogModel", name := "crash", desc := "(I)Z" } : Jvm.MethodName) prog_18_method_100_code (2 : Nat) (Option.some Jvm.ClassFile.FieldType.boolean)) ∈ lw_all := lw_g (lw_at lw_m8 44 rfl) rfl
theorem q1883 : (Jvm.Cond.instanceMethod ({ cls := "TermLogModel", name := "comeUp", desc := "(I)Z" } : Jvm.MethodName)) ∈ lw_all := lw_g (lw_at lw_m8 46 rfl) rfl
theorem q1884 : (Jvm.Cond.selects "TermLogModel" ({ cls := "TermLogModel", name := "comeUp", desc := "(I)Z" } : Jvm.MethodName) ({ cls := "TermLogModel", name := "comeUp", desc := "(I)Z" } : Jvm.MethodName)) ∈ lw_all := lw_g (lw_at lw_m8 47 rfl) rfl
theorem q1885 : (Jvm.Cond.code ({ cls := "TermLogModel", name := "comeUp", desc := "(I)Z" } : Jvm.MethodName) prog_18_method_101_code (3 : Nat) (Option.some Jvm.ClassFile.FieldType.boolean)) ∈ lw_all := lw_g (lw_at lw_m8 48 rfl) rfl
theorem q1887 : (Jvm.Cond.instanceMethod ({ cls := "TermLogModel", name := "cut", desc := "(IIZ)Z" } : Jvm.MethodName)) ∈ lw_all := lw_g (lw_at lw_m8 50 rfl) rfl
theorem q1888 : (Jvm.Cond.selects "TermLogModel" ({ cls := "TermLogModel", name := "cut", desc := "(IIZ)Z" } : Jvm.MethodName) ({ cls := "TermLogModel", name := "cut", desc := "(IIZ)Z" } : Jvm.MethodName)) ∈ lw_all := lw_g (lw_at lw_m8 51 rfl) rfl
theorem q1889 : (Jvm.Cond.code ({ cls := "TermLogModel", name := "cut", desc := "(IIZ)Z" } : Jvm.MethodName) prog_18_method_102_code (4 : Nat) (Option.some Jvm.ClassFile.FieldType.boolean)) ∈ lw_all := lw_g (lw_at lw_m8 52 rfl) rfl
theorem q1891 : (Jvm.Cond.instanceMethod ({ cls := "TermLogModel", name := "compact", desc := "(I)Z" } : Jvm.MethodName)) ∈ lw_all := lw_g (lw_at lw_m8 54 rfl) rfl
theorem q1892 : (Jvm.Cond.selects "TermLogModel" ({ cls := "TermLogModel", name := "compact", desc := "(I)Z" } : Jvm.MethodName) ({ cls := "TermLogModel", name := "compact", desc := "(I)Z" } : Jvm.MethodName)) ∈ lw_all := lw_g (lw_at lw_m8 55 rfl) rfl
theorem q1893 : (Jvm.Cond.code ({ cls := "TermLogModel", name := "compact", desc := "(I)Z" } : Jvm.MethodName) prog_18_method_103_code (2 : Nat) (Option.some Jvm.ClassFile.FieldType.boolean)) ∈ lw_all := lw_g (lw_at lw_m8 56 rfl) rfl
theorem q1895 : (Jvm.Cond.instanceMethod ({ cls := "TermLogModel", name := "write", desc := "(III)I" } : Jvm.MethodName)) ∈ lw_all := lw_g (lw_at lw_m8 58 rfl) rfl
theorem q1896 : (Jvm.Cond.selects "TermLogModel" ({ cls := "TermLogModel", name := "write", desc := "(III)I" } : Jvm.MethodName) ({ cls := "TermLogModel", name := "write", desc := "(III)I" } : Jvm.MethodName)) ∈ lw_all := lw_g (lw_at lw_m8 59 rfl) rfl
theorem q1897 : (Jvm.Cond.code ({ cls := "TermLogModel", name := "write", desc := "(III)I" } : Jvm.MethodName) prog_18_method_105_code (5 : Nat) (Option.some Jvm.ClassFile.FieldType.int)) ∈ lw_all := lw_g (lw_at lw_m8 60 rfl) rfl
theorem q1898 : (Jvm.Cond.methodLink "TermLogModel" (414 : Nat) ({ cls := "TermLogModel", name := "isLeader", desc := "(I)Z" } : Jvm.MethodName)) ∈ lw_all := lw_g (lw_at lw_m8 61 rfl) rfl
theorem q1899 : (Jvm.Cond.privateMethod ({ cls := "TermLogModel", name := "isLeader", desc := "(I)Z" } : Jvm.MethodName)) ∈ lw_tbl := lw_at lw_m8 62 rfl
theorem q1900 : (Jvm.Cond.instanceMethod ({ cls := "TermLogModel", name := "isLeader", desc := "(I)Z" } : Jvm.MethodName)) ∈ lw_all := lw_g (lw_at lw_m8 63 rfl) rfl
theorem q1901 : (Jvm.Cond.code ({ cls := "TermLogModel", name := "isLeader", desc := "(I)Z" } : Jvm.MethodName) prog_18_method_12_code (2 : Nat) (Option.some Jvm.ClassFile.FieldType.boolean)) ∈ lw_all := lw_g (lw_at lw_m8 64 rfl) rfl
theorem q1902 : (Jvm.Cond.methodLink "TermLogModel" (417 : Nat) ({ cls := "TermLogModel", name := "isFull", desc := "(I)Z" } : Jvm.MethodName)) ∈ lw_all := lw_g (lw_at lw_m8 65 rfl) rfl
theorem q1903 : (Jvm.Cond.privateMethod ({ cls := "TermLogModel", name := "isFull", desc := "(I)Z" } : Jvm.MethodName)) ∈ lw_tbl := lw_at lw_m8 66 rfl
theorem q1904 : (Jvm.Cond.instanceMethod ({ cls := "TermLogModel", name := "isFull", desc := "(I)Z" } : Jvm.MethodName)) ∈ lw_all := lw_g (lw_at lw_m8 67 rfl) rfl
theorem q1905 : (Jvm.Cond.code ({ cls := "TermLogModel", name := "isFull", desc := "(I)Z" } : Jvm.MethodName) prog_18_method_104_code (2 : Nat) (Option.some Jvm.ClassFile.FieldType.boolean)) ∈ lw_all := lw_g (lw_at lw_m8 68 rfl) rfl
theorem q1907 : (Jvm.Cond.instanceMethod ({ cls := "TermLogModel", name := "change", desc := "(II)I" } : Jvm.MethodName)) ∈ lw_all := lw_g (lw_at lw_m8 70 rfl) rfl
theorem q1908 : (Jvm.Cond.selects "TermLogModel" ({ cls := "TermLogModel", name := "change", desc := "(II)I" } : Jvm.MethodName) ({ cls := "TermLogModel", name := "change", desc := "(II)I" } : Jvm.MethodName)) ∈ lw_all := lw_g (lw_at lw_m8 71 rfl) rfl
theorem q1909 : (Jvm.Cond.code ({ cls := "TermLogModel", name := "change", desc := "(II)I" } : Jvm.MethodName) prog_18_method_106_code (4 : Nat) (Option.some Jvm.ClassFile.FieldType.int)) ∈ lw_all := lw_g (lw_at lw_m8 72 rfl) rfl
theorem q1911 : (Jvm.Cond.instanceMethod ({ cls := "TermLogModel", name := "ask", desc := "(II)I" } : Jvm.MethodName)) ∈ lw_all := lw_g (lw_at lw_m8 74 rfl) rfl
theorem q1912 : (Jvm.Cond.selects "TermLogModel" ({ cls := "TermLogModel", name := "ask", desc := "(II)I" } : Jvm.MethodName) ({ cls := "TermLogModel", name := "ask", desc := "(II)I" } : Jvm.MethodName)) ∈ lw_all := lw_g (lw_at lw_m8 75 rfl) rfl
theorem q1913 : (Jvm.Cond.code ({ cls := "TermLogModel", name := "ask", desc := "(II)I" } : Jvm.MethodName) prog_18_method_107_code (4 : Nat) (Option.some Jvm.ClassFile.FieldType.int)) ∈ lw_all := lw_g (lw_at lw_m8 76 rfl) rfl
theorem q1915 : (Jvm.Cond.instanceMethod ({ cls := "TermLogModel", name := "plan", desc := "(I)I" } : Jvm.MethodName)) ∈ lw_all := lw_g (lw_at lw_m8 78 rfl) rfl
theorem q1916 : (Jvm.Cond.selects "TermLogModel" ({ cls := "TermLogModel", name := "plan", desc := "(I)I" } : Jvm.MethodName) ({ cls := "TermLogModel", name := "plan", desc := "(I)I" } : Jvm.MethodName)) ∈ lw_all := lw_g (lw_at lw_m8 79 rfl) rfl
theorem q1917 : (Jvm.Cond.code ({ cls := "TermLogModel", name := "plan", desc := "(I)I" } : Jvm.MethodName) prog_18_method_115_code (5 : Nat) (Option.some Jvm.ClassFile.FieldType.int)) ∈ lw_all := lw_g (lw_at lw_m8 80 rfl) rfl
theorem q1918 : (Jvm.Cond.methodLink "TermLogModel" (475 : Nat) ({ cls := "TermLogModel", name := "readsAct", desc := "()Z" } : Jvm.MethodName)) ∈ lw_all := lw_g (lw_at lw_m8 81 rfl) rfl
theorem q1919 : (Jvm.Cond.privateMethod ({ cls := "TermLogModel", name := "readsAct", desc := "()Z" } : Jvm.MethodName)) ∈ lw_tbl := lw_at lw_m8 82 rfl
theorem q1920 : (Jvm.Cond.instanceMethod ({ cls := "TermLogModel", name := "readsAct", desc := "()Z" } : Jvm.MethodName)) ∈ lw_all := lw_g (lw_at lw_m8 83 rfl) rfl
theorem q1921 : (Jvm.Cond.code ({ cls := "TermLogModel", name := "readsAct", desc := "()Z" } : Jvm.MethodName) prog_18_method_113_code (4 : Nat) (Option.some Jvm.ClassFile.FieldType.boolean)) ∈ lw_all := lw_g (lw_at lw_m8 84 rfl) rfl
theorem q1922 : (Jvm.Cond.methodLink "TermLogModel" (441 : Nat) ({ cls := "TermLogModel", name := "readsTimes", desc := "()V" } : Jvm.MethodName)) ∈ lw_all := lw_g (lw_at lw_m8 85 rfl) rfl
theorem q1923 : (Jvm.Cond.privateMethod ({ cls := "TermLogModel", name := "readsTimes", desc := "()V" } : Jvm.MethodName)) ∈ lw_tbl := lw_at lw_m8 86 rfl
theorem q1924 : (Jvm.Cond.instanceMethod ({ cls := "TermLogModel", name := "readsTimes", desc := "()V" } : Jvm.MethodName)) ∈ lw_all := lw_g (lw_at lw_m8 87 rfl) rfl
theorem q1925 : (Jvm.Cond.code ({ cls := "TermLogModel", name := "readsTimes", desc := "()V" } : Jvm.MethodName) prog_18_method_108_code (1 : Nat) (Option.none : Option Jvm.ClassFile.FieldType)) ∈ lw_all := lw_g (lw_at lw_m8 88 rfl) rfl
theorem q1926 : (Jvm.Cond.methodLink "TermLogModel" (447 : Nat) ({ cls := "TermLogModel", name := "isAct", desc := "(I)Z" } : Jvm.MethodName)) ∈ lw_all := lw_g (lw_at lw_m8 89 rfl) rfl
theorem q1927 : (Jvm.Cond.static ({ cls := "TermLogModel", name := "isAct", desc := "(I)Z" } : Jvm.MethodName)) ∈ lw_all := lw_g (lw_at lw_m8 90 rfl) rfl
theorem q1928 : (Jvm.Cond.code ({ cls := "TermLogModel", name := "isAct", desc := "(I)Z" } : Jvm.MethodName) prog_18_method_112_code (1 : Nat) (Option.some Jvm.ClassFile.FieldType.boolean)) ∈ lw_all := lw_g (lw_at lw_m8 91 rfl) rfl
theorem q1929 : (Jvm.Cond.methodLink "TermLogModel" (450 : Nat) ({ cls := "TermLogModel", name := "readsNumbers", desc := "(I)Z" } : Jvm.MethodName)) ∈ lw_all := lw_g (lw_at lw_m8 92 rfl) rfl
theorem q1930 : (Jvm.Cond.privateMethod ({ cls := "TermLogModel", name := "readsNumbers", desc := "(I)Z" } : Jvm.MethodName)) ∈ lw_tbl := lw_at lw_m8 93 rfl
theorem q1931 : (Jvm.Cond.instanceMethod ({ cls := "TermLogModel", name := "readsNumbers", desc := "(I)Z" } : Jvm.MethodName)) ∈ lw_all := lw_g (lw_at lw_m8 94 rfl) rfl
theorem q1932 : (Jvm.Cond.code ({ cls := "TermLogModel", name := "readsNumbers", desc := "(I)Z" } : Jvm.MethodName) prog_18_method_111_code (2 : Nat) (Option.some Jvm.ClassFile.FieldType.boolean)) ∈ lw_all := lw_g (lw_at lw_m8 95 rfl) rfl
theorem q1933 : (Jvm.Cond.methodLink "TermLogModel" (438 : Nat) ({ cls := "TermLogModel", name := "readsDigit", desc := "(I)Z" } : Jvm.MethodName)) ∈ lw_all := lw_g (lw_at lw_m8 96 rfl) rfl
theorem q1934 : (Jvm.Cond.privateMethod ({ cls := "TermLogModel", name := "readsDigit", desc := "(I)Z" } : Jvm.MethodName)) ∈ lw_tbl := lw_at lw_m8 97 rfl
theorem q1935 : (Jvm.Cond.instanceMethod ({ cls := "TermLogModel", name := "readsDigit", desc := "(I)Z" } : Jvm.MethodName)) ∈ lw_all := lw_g (lw_at lw_m8 98 rfl) rfl
theorem q1936 : (Jvm.Cond.code ({ cls := "TermLogModel", name := "readsDigit", desc := "(I)Z" } : Jvm.MethodName) prog_18_method_110_code (2 : Nat) (Option.some Jvm.ClassFile.FieldType.boolean)) ∈ lw_all := lw_g (lw_at lw_m8 99 rfl) rfl
theorem q1937 : (Jvm.Cond.methodLink "TermLogModel" (453 : Nat) ({ cls := "TermLogModel", name := "repeats", desc := "(III)Z" } : Jvm.MethodName)) ∈ lw_all := lw_g (lw_at lw_m8 100 rfl) rfl
theorem q1938 : (Jvm.Cond.privateMethod ({ cls := "TermLogModel", name := "repeats", desc := "(III)Z" } : Jvm.MethodName)) ∈ lw_tbl := lw_at lw_m8 101 rfl
theorem q1939 : (Jvm.Cond.instanceMethod ({ cls := "TermLogModel", name := "repeats", desc := "(III)Z" } : Jvm.MethodName)) ∈ lw_all := lw_g (lw_at lw_m8 102 rfl) rfl
theorem q1940 : (Jvm.Cond.code ({ cls := "TermLogModel", name := "repeats", desc := "(III)Z" } : Jvm.MethodName) prog_18_method_109_code (6 : Nat) (Option.some Jvm.ClassFile.FieldType.boolean)) ∈ lw_all := lw_g (lw_at lw_m8 103 rfl) rfl
theorem q1941 : (Jvm.Cond.methodLink "TermLogModel" (478 : Nat) ({ cls := "TermLogModel", name := "isDone", desc := "(I)Z" } : Jvm.MethodName)) ∈ lw_all := lw_g (lw_at lw_m8 104 rfl) rfl
theorem q1942 : (Jvm.Cond.privateMethod ({ cls := "TermLogModel", name := "isDone", desc := "(I)Z" } : Jvm.MethodName)) ∈ lw_tbl := lw_at lw_m8 105 rfl
theorem q1943 : (Jvm.Cond.instanceMethod ({ cls := "TermLogModel", name := "isDone", desc := "(I)Z" } : Jvm.MethodName)) ∈ lw_all := lw_g (lw_at lw_m8 106 rfl) rfl
theorem q1944 : (Jvm.Cond.code ({ cls := "TermLogModel", name := "isDone", desc := "(I)Z" } : Jvm.MethodName) prog_18_method_114_code (2 : Nat) (Option.some Jvm.ClassFile.FieldType.boolean)) ∈ lw_all := lw_g (lw_at lw_m8 107 rfl) rfl
theorem q1945 : (Jvm.Cond.methodLink "TermLogModel" (456 : Nat) ({ cls := "TermLogModel", name := "crash", desc := "(I)Z" } : Jvm.MethodName)) ∈ lw_all := lw_g (lw_at lw_m8 108 rfl) rfl
theorem q1946 : (Jvm.Cond.methodLink "TermLogModel" (459 : Nat) ({ cls := "TermLogModel", name := "comeUp", desc := "(I)Z" } : Jvm.MethodName)) ∈ lw_all := lw_g (lw_at lw_m8 109 rfl) rfl
theorem q1947 : (Jvm.Cond.methodLink "TermLogModel" (462 : Nat) ({ cls := "TermLogModel", name := "compact", desc := "(I)Z" } : Jvm.MethodName)) ∈ lw_all := lw_g (lw_at lw_m8 110 rfl) rfl
theorem q1948 : (Jvm.Cond.methodLink "TermLogModel" (465 : Nat) ({ cls := "TermLogModel", name := "write", desc := "(III)I" } : Jvm.MethodName)) ∈ lw_all := lw_g (lw_at lw_m8 111 rfl) rfl
theorem q1949 : (Jvm.Cond.methodLink "TermLogModel" (468 : Nat) ({ cls := "TermLogModel", name := "ask", desc := "(II)I" } : Jvm.MethodName)) ∈ lw_all := lw_g (lw_at lw_m8 112 rfl) rfl
theorem q1950 : (Jvm.Cond.methodLink "TermLogModel" (471 : Nat) ({ cls := "TermLogModel", name := "cut", desc := "(IIZ)Z" } : Jvm.MethodName)) ∈ lw_all := lw_g (lw_at lw_m8 113 rfl) rfl
theorem q1952 : (Jvm.Cond.instanceMethod ({ cls := "TermLogModel", name := "leaderNow", desc := "()I" } : Jvm.MethodName)) ∈ lw_all := lw_g (lw_at lw_m8 115 rfl) rfl
theorem q1953 : (Jvm.Cond.selects "TermLogModel" ({ cls := "TermLogModel", name := "leaderNow", desc := "()I" } : Jvm.MethodName) ({ cls := "TermLogModel", name := "leaderNow", desc := "()I" } : Jvm.MethodName)) ∈ lw_all := lw_g (lw_at lw_m8 116 rfl) rfl
theorem q1954 : (Jvm.Cond.code ({ cls := "TermLogModel", name := "leaderNow", desc := "()I" } : Jvm.MethodName) prog_18_method_117_code (1 : Nat) (Option.some Jvm.ClassFile.FieldType.int)) ∈ lw_all := lw_g (lw_at lw_m8 117 rfl) rfl
theorem q1955 : (Jvm.Cond.methodLink "TermLogModel" (481 : Nat) ({ cls := "TermLogModel", name := "leading", desc := "()I" } : Jvm.MethodName)) ∈ lw_all := lw_g (lw_at lw_m8 118 rfl) rfl
theorem q1956 : (Jvm.Cond.privateMethod ({ cls := "TermLogModel", name := "leading", desc := "()I" } : Jvm.MethodName)) ∈ lw_tbl := lw_at lw_m8 119 rfl
theorem q1957 : (Jvm.Cond.instanceMethod ({ cls := "TermLogModel", name := "leading", desc := "()I" } : Jvm.MethodName)) ∈ lw_all := lw_g (lw_at lw_m8 120 rfl) rfl
theorem q1958 : (Jvm.Cond.code ({ cls := "TermLogModel", name := "leading", desc := "()I" } : Jvm.MethodName) prog_18_method_116_code (3 : Nat) (Option.some Jvm.ClassFile.FieldType.int)) ∈ lw_all := lw_g (lw_at lw_m8 121 rfl) rfl
theorem q1960 : (Jvm.Cond.instanceMethod ({ cls := "TermLogModel", name := "tried", desc := "(II)I" } : Jvm.MethodName)) ∈ lw_all := lw_g (lw_at lw_m8 123 rfl) rfl
theorem q1961 : (Jvm.Cond.selects "TermLogModel" ({ cls := "TermLogModel", name := "tried", desc := "(II)I" } : Jvm.MethodName) ({ cls := "TermLogModel", name := "tried", desc := "(II)I" } : Jvm.MethodName)) ∈ lw_all := lw_g (lw_at lw_m8 124 rfl) rfl
theorem q1962 : (Jvm.Cond.code ({ cls := "TermLogModel", name := "tried", desc := "(II)I" } : Jvm.MethodName) prog_18_method_118_code (4 : Nat) (Option.some Jvm.ClassFile.FieldType.int)) ∈ lw_all := lw_g (lw_at lw_m8 125 rfl) rfl
theorem q1963 : (Jvm.Cond.methodLink "TermLogModel" (484 : Nat) ({ cls := "TermLogModel", name := "copies", desc := "([I[I)V" } : Jvm.MethodName)) ∈ lw_all := lw_g (lw_at lw_m8 126 rfl) rfl
theorem q1964 : (Jvm.Cond.static ({ cls := "TermLogModel", name := "copies", desc := "([I[I)V" } : Jvm.MethodName)) ∈ lw_all := lw_g (lw_at lw_m8 127 rfl) rfl
theorem q1965 : (Jvm.Cond.code ({ cls := "TermLogModel", name := "copies", desc := "([I[I)V" } : Jvm.MethodName) prog_18_method_7_code (3 : Nat) (Option.none : Option Jvm.ClassFile.FieldType)) ∈ lw_all := lw_g (lw_at lw_m8 128 rfl) rfl
theorem q1967 : (Jvm.Cond.instanceMethod ({ cls := "TermLogModel", name := "nodeIs", desc := "(II)I" } : Jvm.MethodName)) ∈ lw_all := lw_g (lw_at lw_m8 130 rfl) rfl
theorem q1968 : (Jvm.Cond.selects "TermLogModel" ({ cls := "TermLogModel", name := "nodeIs", desc := "(II)I" } : Jvm.MethodName) ({ cls := "TermLogModel", name := "nodeIs", desc := "(II)I" } : Jvm.MethodName)) ∈ lw_all := lw_g (lw_at lw_m8 131 rfl) rfl
theorem q1969 : (Jvm.Cond.code ({ cls := "TermLogModel", name := "nodeIs", desc := "(II)I" } : Jvm.MethodName) prog_18_method_120_code (4 : Nat) (Option.some Jvm.ClassFile.FieldType.int)) ∈ lw_all := lw_g (lw_at lw_m8 132 rfl) rfl
theorem q1970 : (Jvm.Cond.methodLink "TermLogModel" (488 : Nat) ({ cls := "TermLogModel", name := "orNone", desc := "(I)I" } : Jvm.MethodName)) ∈ lw_all := lw_g (lw_at lw_m8 133 rfl) rfl
theorem q1971 : (Jvm.Cond.static ({ cls := "TermLogModel", name := "orNone", desc := "(I)I" } : Jvm.MethodName)) ∈ lw_all := lw_g (lw_at lw_m8 134 rfl) rfl
theorem q1972 : (Jvm.Cond.code ({ cls := "TermLogModel", name := "orNone", desc := "(I)I" } : Jvm.MethodName) prog_18_method_119_code (1 : Nat) (Option.some Jvm.ClassFile.FieldType.int)) ∈ lw_all := lw_g (lw_at lw_m8 135 rfl) rfl
theorem q1974 : (Jvm.Cond.instanceMethod ({ cls := "TermLogModel", name := "entryAt", desc := "(III)I" } : Jvm.MethodName)) ∈ lw_all := lw_g (lw_at lw_m8 137 rfl) rfl
theorem q1975 : (Jvm.Cond.selects "TermLogModel" ({ cls := "TermLogModel", name := "entryAt", desc := "(III)I" } : Jvm.MethodName) ({ cls := "TermLogModel", name := "entryAt", desc := "(III)I" } : Jvm.MethodName)) ∈ lw_all := lw_g (lw_at lw_m8 138 rfl) rfl
theorem q1976 : (Jvm.Cond.code ({ cls := "TermLogModel", name := "entryAt", desc := "(III)I" } : Jvm.MethodName) prog_18_method_121_code (4 : Nat) (Option.some Jvm.ClassFile.FieldType.int)) ∈ lw_all := lw_g (lw_at lw_m8 139 rfl) rfl
theorem q1978 : (Jvm.Cond.instanceMethod ({ cls := "TermLogModel", name := "keyOf", desc := "(II)I" } : Jvm.MethodName)) ∈ lw_all := lw_g (lw_at lw_m8 141 rfl) rfl
theorem q1979 : (Jvm.Cond.selects "TermLogModel" ({ cls := "TermLogModel", name := "keyOf", desc := "(II)I" } : Jvm.MethodName) ({ cls := "TermLogModel", name := "keyOf", desc := "(II)I" } : Jvm.MethodName)) ∈ lw_all := lw_g (lw_at lw_m8 142 rfl) rfl
theorem q1980 : (Jvm.Cond.code ({ cls := "TermLogModel", name := "keyOf", desc := "(II)I" } : Jvm.MethodName) prog_18_method_122_code (3 : Nat) (Option.some Jvm.ClassFile.FieldType.int)) ∈ lw_all := lw_g (lw_at lw_m8 143 rfl) rfl
theorem q1982 : (Jvm.Cond.instanceMethod ({ cls := "TermLogModel", name := "about", desc := "(III)I" } : Jvm.MethodName)) ∈ lw_all := lw_g (lw_at lw_m8 145 rfl) rfl
theorem q1983 : (Jvm.Cond.selects "TermLogModel" ({ cls := "TermLogModel", name := "about", desc := "(III)I" } : Jvm.MethodName) ({ cls := "TermLogModel", name := "about", desc := "(III)I" } : Jvm.MethodName)) ∈ lw_all := lw_g (lw_at lw_m8 146 rfl) rfl
theorem q1984 : (Jvm.Cond.code ({ cls := "TermLogModel", name := "about", desc := "(III)I" } : Jvm.MethodName) prog_18_method_123_code (4 : Nat) (Option.some Jvm.ClassFile.FieldType.int)) ∈ lw_all := lw_g (lw_at lw_m8 147 rfl) rfl
theorem q1986 : (Jvm.Cond.instanceMethod ({ cls := "TermLogModel", name := "message", desc := "(II)I" } : Jvm.MethodName)) ∈ lw_all := lw_g (lw_at lw_m8 149 rfl) rfl
theorem q1987 : (Jvm.Cond.selects "TermLogModel" ({ cls := "TermLogModel", name := "message", desc := "(II)I" } : Jvm.MethodName) ({ cls := "TermLogModel", name := "message", desc := "(II)I" } : Jvm.MethodName)) ∈ lw_all := lw_g (lw_at lw_m8 150 rfl) rfl
theorem q1988 : (Jvm.Cond.code ({ cls := "TermLogModel", name := "message", desc := "(II)I" } : Jvm.MethodName) prog_18_method_124_code (3 : Nat) (Option.some Jvm.ClassFile.FieldType.int)) ∈ lw_all := lw_g (lw_at lw_m8 151 rfl) rfl
theorem q1990 : (Jvm.Cond.instanceMethod ({ cls := "TermLogModel", name := "heldAt", desc := "(II)I" } : Jvm.MethodName)) ∈ lw_all := lw_g (lw_at lw_m8 153 rfl) rfl
theorem q1991 : (Jvm.Cond.selects "TermLogModel" ({ cls := "TermLogModel", name := "heldAt", desc := "(II)I" } : Jvm.MethodName) ({ cls := "TermLogModel", name := "heldAt", desc := "(II)I" } : Jvm.MethodName)) ∈ lw_all := lw_g (lw_at lw_m8 154 rfl) rfl
theorem q1992 : (Jvm.Cond.code ({ cls := "TermLogModel", name := "heldAt", desc := "(II)I" } : Jvm.MethodName) prog_18_method_125_code (3 : Nat) (Option.some Jvm.ClassFile.FieldType.int)) ∈ lw_all := lw_g (lw_at lw_m8 155 rfl) rfl
theorem q1994 : (Jvm.Cond.instanceMethod ({ cls := "TermLogModel", name := "readIs", desc := "(II)I" } : Jvm.MethodName)) ∈ lw_all := lw_g (lw_at lw_m8 157 rfl) rfl
theorem q1995 : (Jvm.Cond.selects "TermLogModel" ({ cls := "TermLogModel", name := "readIs", desc := "(II)I" } : Jvm.MethodName) ({ cls := "TermLogModel", name := "readIs", desc := "(II)I" } : Jvm.MethodName)) ∈ lw_all := lw_g (lw_at lw_m8 158 rfl) rfl
theorem q1996 : (Jvm.Cond.code ({ cls := "TermLogModel", name := "readIs", desc := "(II)I" } : Jvm.MethodName) prog_18_method_126_code (4 : Nat) (Option.some Jvm.ClassFile.FieldType.int)) ∈ lw_all := lw_g (lw_at lw_m8 159 rfl) rfl
theorem q1998 : (Jvm.Cond.instanceMethod ({ cls := "TermLogModel", name := "broken", desc := "(I)I" } : Jvm.MethodName)) ∈ lw_all := lw_g (lw_at lw_m8 161 rfl) rfl
theorem q1999 : (Jvm.Cond.selects "TermLogModel" ({ cls := "TermLogModel", name := "broken", desc := "(I)I" } : Jvm.MethodName) ({ cls := "TermLogModel", name := "broken", desc := "(I)I" } : Jvm.MethodName)) ∈ lw_all := lw_g (lw_at lw_m8 162 rfl) rfl
theorem q2000 : (Jvm.Cond.code ({ cls := "TermLogModel", name := "broken", desc := "(I)I" } : Jvm.MethodName) prog_18_method_130_code (5 : Nat) (Option.some Jvm.ClassFile.FieldType.int)) ∈ lw_all := lw_g (lw_at lw_m8 163 rfl) rfl
theorem q2001 : (Jvm.Cond.methodLink "TermLogModel" (494 : Nat) ({ cls := "TermLogModel", name := "areMatched", desc := "(II)Z" } : Jvm.MethodName)) ∈ lw_all := lw_g (lw_at lw_m8 164 rfl) rfl
theorem q2002 : (Jvm.Cond.privateMethod ({ cls := "TermLogModel", name := "areMatched", desc := "(II)Z" } : Jvm.MethodName)) ∈ lw_tbl := lw_at lw_m8 165 rfl
theorem q2003 : (Jvm.Cond.instanceMethod ({ cls := "TermLogModel", name := "areMatched", desc := "(II)Z" } : Jvm.MethodName)) ∈ lw_all := lw_g (lw_at lw_m8 166 rfl) rfl
theorem q2004 : (Jvm.Cond.code ({ cls := "TermLogModel", name := "areMatched", desc := "(II)Z" } : Jvm.MethodName) prog_18_method_128_code (5 : Nat) (Option.some Jvm.ClassFile.FieldType.boolean)) ∈ lw_all := lw_g (lw_at lw_m8 167 rfl) rfl
theorem q2005 : (Jvm.Cond.methodLink "TermLogModel" (491 : Nat) ({ cls := "TermLogModel", name := "areSame", desc := "(III)Z" } : Jvm.MethodName)) ∈ lw_all := lw_g (lw_at lw_m8 168 rfl) rfl
theorem q2006 : (Jvm.Cond.privateMethod ({ cls := "TermLogModel", name := "areSame", desc := "(III)Z" } : Jvm.MethodName)) ∈ lw_tbl := lw_at lw_m8 169 rfl
theorem q2007 : (Jvm.Cond.instanceMethod ({ cls := "TermLogModel", name := "areSame", desc := "(III)Z" } : Jvm.MethodName)) ∈ lw_all := lw_g (lw_at lw_m8 170 rfl) rfl
theorem q2008 : (Jvm.Cond.code ({ cls := "TermLogModel", name := "areSame", desc := "(III)Z" } : Jvm.MethodName) prog_18_method_127_code (5 : Nat) (Option.some Jvm.ClassFile.FieldType.boolean)) ∈ lw_all := lw_g (lw_at lw_m8 171 rfl) rfl
theorem q2009 : (Jvm.Cond.methodLink "TermLogModel" (497 : Nat) ({ cls := "TermLogModel", name := "areAlike", desc := "(II)Z" } : Jvm.MethodName)) ∈ lw_all := lw_g (lw_at lw_m8 172 rfl) rfl
theorem q2010 : (Jvm.Cond.privateMethod ({ cls := "TermLogModel", name := "areAlike", desc := "(II)Z" } : Jvm.MethodName)) ∈ lw_tbl := lw_at lw_m8 173 rfl
theorem q2011 : (Jvm.Cond.instanceMethod ({ cls := "TermLogModel", name := "areAlike", desc := "(II)Z" } : Jvm.MethodName)) ∈ lw_all := lw_g (lw_at lw_m8 174 rfl) rfl
theorem q2012 : (Jvm.Cond.code ({ cls := "TermLogModel", name := "areAlike", desc := "(II)Z" } : Jvm.MethodName) prog_18_method_129_code (4 : Nat) (Option.some Jvm.ClassFile.FieldType.boolean)) ∈ lw_all := lw_g (lw_at lw_m8 175 rfl) rfl
theorem q2014 : (Jvm.Cond.instanceMethod ({ cls := "TermLogModel", name := "couldWin", desc := "(II)I" } : Jvm.MethodName)) ∈ lw_all := lw_g (lw_at lw_m8 177 rfl) rfl
theorem q2015 : (Jvm.Cond.selects "TermLogModel" ({ cls := "TermLogModel", name := "couldWin", desc := "(II)I" } : Jvm.MethodName) ({ cls := "TermLogModel", name := "couldWin", desc := "(II)I" } : Jvm.MethodName)) ∈ lw_all := lw_g (lw_at lw_m8 178 rfl) rfl
theorem q2016 : (Jvm.Cond.code ({ cls := "TermLogModel", name := "couldWin", desc := "(II)I" } : Jvm.MethodName) prog_18_method_132_code (5 : Nat) (Option.some Jvm.ClassFile.FieldType.int)) ∈ lw_all := lw_g (lw_at lw_m8 179 rfl) rfl
theorem q2017 : (Jvm.Cond.methodLink "TermLogModel" (500 : Nat) ({ cls := "TermLogModel", name := "wouldGrant", desc := "(II)Z" } : Jvm.MethodName)) ∈ lw_all := lw_g (lw_at lw_m8 180 rfl) rfl
theorem q2018 : (Jvm.Cond.privateMethod ({ cls := "TermLogModel", name := "wouldGrant", desc := "(II)Z" } : Jvm.MethodName)) ∈ lw_tbl := lw_at lw_m8 181 rfl
theorem q2019 : (Jvm.Cond.instanceMethod ({ cls := "TermLogModel", name := "wouldGrant", desc := "(II)Z" } : Jvm.MethodName)) ∈ lw_all := lw_g (lw_at lw_m8 182 rfl) rfl
theorem q2020 : (Jvm.Cond.code ({ cls := "TermLogModel", name := "wouldGrant", desc := "(II)Z" } : Jvm.MethodName) prog_18_method_131_code (5 : Nat) (Option.some Jvm.ClassFile.FieldType.boolean)) ∈ lw_all := lw_g (lw_at lw_m8 183 rfl) rfl
theorem q2022 : (Jvm.Cond.instanceMethod ({ cls := "TermLogModel", name := "majority", desc := "(II)I" } : Jvm.MethodName)) ∈ lw_all := lw_g (lw_at lw_m8 185 rfl) rfl
theorem q2023 : (Jvm.Cond.selects "TermLogModel" ({ cls := "TermLogModel", name := "majority", desc := "(II)I" } : Jvm.MethodName) ({ cls := "TermLogModel", name := "majority", desc := "(II)I" } : Jvm.MethodName)) ∈ lw_all := lw_g (lw_at lw_m8 186 rfl) rfl
theorem q2024 : (Jvm.Cond.code ({ cls := "TermLogModel", name := "majority", desc := "(II)I" } : Jvm.MethodName) prog_18_method_133_code (3 : Nat) (Option.some Jvm.ClassFile.FieldType.int)) ∈ lw_all := lw_g (lw_at lw_m8 187 rfl) rfl
theorem q2026 : (Jvm.Cond.instanceMethod ({ cls := "TermLogModel", name := "till", desc := "(II)I" } : Jvm.MethodName)) ∈ lw_all := lw_g (lw_at lw_m8 189 rfl) rfl
theorem q2027 : (Jvm.Cond.selects "TermLogModel" ({ cls := "TermLogModel", name := "till", desc := "(II)I" } : Jvm.MethodName) ({ cls := "TermLogModel", name := "till", desc := "(II)I" } : Jvm.MethodName)) ∈ lw_all := lw_g (lw_at lw_m8 190 rfl) rfl
theorem q2028 : (Jvm.Cond.code ({ cls := "TermLogModel", name := "till", desc := "(II)I" } : Jvm.MethodName) prog_18_method_136_code (5 : Nat) (Option.some Jvm.ClassFile.FieldType.int)) ∈ lw_all := lw_g (lw_at lw_m8 191 rfl) rfl
theorem q2029 : (Jvm.Cond.methodLink "TermLogModel" (506 : Nat) ({ cls := "TermLogModel", name := "isSo", desc := "(II)Z" } : Jvm.MethodName)) ∈ lw_all := lw_g (lw_at lw_m8 192 rfl) rfl
theorem q2030 : (Jvm.Cond.privateMethod ({ cls := "TermLogModel", name := "isSo", desc := "(II)Z" } : Jvm.MethodName)) ∈ lw_tbl := lw_at lw_m8 193 rfl
theorem q2031 : (Jvm.Cond.instanceMethod ({ cls := "TermLogModel", name := "isSo", desc := "(II)Z" } : Jvm.MethodName)) ∈ lw_all := lw_g (lw_at lw_m8 194 rfl) rfl
theorem q2032 : (Jvm.Cond.code ({ cls := "TermLogModel", name := "isSo", desc := "(II)Z" } : Jvm.MethodName) prog_18_method_135_code (3 : Nat) (Option.some Jvm.ClassFile.FieldType.boolean)) ∈ lw_all := lw_g (lw_at lw_m8 195 rfl) rfl
theorem q2033 : (Jvm.Cond.methodLink "TermLogModel" (503 : Nat) ({ cls := "TermLogModel", name := "allHave", desc := "()Z" } : Jvm.MethodName)) ∈ lw_all := lw_g (lw_at lw_m8 196 rfl) rfl
theorem q2034 : (Jvm.Cond.privateMethod ({ cls := "TermLogModel", name := "allHave", desc := "()Z" } : Jvm.MethodName)) ∈ lw_tbl := lw_at lw_m8 197 rfl
theorem q2035 : (Jvm.Cond.instanceMethod ({ cls := "TermLogModel", name := "allHave", desc := "()Z" } : Jvm.MethodName)) ∈ lw_all := lw_g (lw_at lw_m8 198 rfl) rfl
theorem q2036 : (Jvm.Cond.code ({ cls := "TermLogModel", name := "allHave", desc := "()Z" } : Jvm.MethodName) prog_18_method_134_code (2 : Nat) (Option.some Jvm.ClassFile.FieldType.boolean)) ∈ lw_all := lw_g (lw_at lw_m8 199 rfl) rfl
theorem q2038 : (Jvm.Cond.instanceMethod ({ cls := "TermLogModel", name := "seed", desc := "(I)Z" } : Jvm.MethodName)) ∈ lw_all := lw_g (lw_at lw_m8 201 rfl) rfl
theorem q2039 : (Jvm.Cond.selects "TermLogModel" ({ cls := "TermLogModel", name := "seed", desc := "(I)Z" } : Jvm.MethodName) ({ cls := "TermLogModel", name := "seed", desc := "(I)Z" } : Jvm.MethodName)) ∈ lw_all := lw_g (lw_at lw_m8 202 rfl) rfl
theorem q2040 : (Jvm.Cond.code ({ cls := "TermLogModel", name := "seed", desc := "(I)Z" } : Jvm.MethodName) prog_18_method_137_code (2 : Nat) (Option.some Jvm.ClassFile.FieldType.boolean)) ∈ lw_all := lw_g (lw_at lw_m8 203 rfl) rfl
theorem q2041 : (Jvm.Cond.constant "TermLogModel" (509 : Nat) (65535 : Int32)) ∈ lw_all := lw_g (lw_at lw_m8 204 rfl) rfl
theorem q2043 : (Jvm.Cond.instanceMethod ({ cls := "TermLogModel", name := "keep", desc := "()I" } : Jvm.MethodName)) ∈ lw_all := lw_g (lw_at lw_m8 206 rfl) rfl
theorem q2044 : (Jvm.Cond.selects "TermLogModel" ({ cls := "TermLogModel", name := "keep", desc := "()I" } : Jvm.MethodName) ({ cls := "TermLogModel", name := "keep", desc := "()I" } : Jvm.MethodName)) ∈ lw_all := lw_g (lw_at lw_m8 207 rfl) rfl
theorem q2045 : (Jvm.Cond.code ({ cls := "TermLogModel", name := "keep", desc := "()I" } : Jvm.MethodName) prog_18_method_138_code (1 : Nat) (Option.some Jvm.ClassFile.FieldType.int)) ∈ lw_all := lw_g (lw_at lw_m8 208 rfl) rfl
theorem q2047 : (Jvm.Cond.instanceMethod ({ cls := "TermLogModel", name := "undo", desc := "()Z" } : Jvm.MethodName)) ∈ lw_all := lw_g (lw_at lw_m8 210 rfl) rfl
theorem q2048 : (Jvm.Cond.selects "TermLogModel" ({ cls := "TermLogModel", name := "undo", desc := "()Z" } : Jvm.MethodName) ({ cls := "TermLogModel", name := "undo", desc := "()Z" } : Jvm.MethodName)) ∈ lw_all := lw_g (lw_at lw_m8 211 rfl) rfl
theorem q2049 : (Jvm.Cond.code ({ cls := "TermLogModel", name := "undo", desc := "()Z" } : Jvm.MethodName) prog_18_method_139_code (1 : Nat) (Option.some Jvm.ClassFile.FieldType.boolean)) ∈ lw_all := lw_g (lw_at lw_m8 212 rfl) rfl
theorem q2051 : (Jvm.Cond.instanceMethod ({ cls := "TermLogModel", name := "check", desc := "(I)I" } : Jvm.MethodName)) ∈ lw_all := lw_g (lw_at lw_m8 214 rfl) rfl
theorem q2052 : (Jvm.Cond.selects "TermLogModel" ({ cls := "TermLogModel", name := "check", desc := "(I)I" } : Jvm.MethodName) ({ cls := "TermLogModel", name := "check", desc := "(I)I" } : Jvm.MethodName)) ∈ lw_all := lw_g (lw_at lw_m8 215 rfl) rfl
theorem q2053 : (Jvm.Cond.code ({ cls := "TermLogModel", name := "check", desc := "(I)I" } : Jvm.MethodName) prog_18_method_141_code (4 : Nat) (Option.some Jvm.ClassFile.FieldType.int)) ∈ lw_all := lw_g (lw_at lw_m8 216 rfl) rfl
theorem q2054 : (Jvm.Cond.methodLink "TermLogModel" (514 : Nat) ({ cls := "TermLogModel", name := "greatest", desc := "()I" } : Jvm.MethodName)) ∈ lw_all := lw_g (lw_at lw_m8 217 rfl) rfl
theorem q2055 : (Jvm.Cond.privateMethod ({ cls := "TermLogModel", name := "greatest", desc := "()I" } : Jvm.MethodName)) ∈ lw_tbl := lw_at lw_m8 218 rfl
theorem q2056 : (Jvm.Cond.instanceMethod ({ cls := "TermLogModel", name := "greatest", desc := "()I" } : Jvm.MethodName)) ∈ lw_all := lw_g (lw_at lw_m8 219 rfl) rfl
theorem q2057 : (Jvm.Cond.code ({ cls := "TermLogModel", name := "greatest", desc := "()I" } : Jvm.MethodName) prog_18_method_140_code (3 : Nat) (Option.some Jvm.ClassFile.FieldType.int)) ∈ lw_all := lw_g (lw_at lw_m8 220 rfl) rfl
theorem q2058 : (Jvm.Cond.methodLink "TermLogModel" (517 : Nat) ({ cls := "TermLogModel", name := "octet", desc := "(I)I" } : Jvm.MethodName)) ∈ lw_all := lw_g (lw_at lw_m8 221 rfl) rfl
theorem q2059 : (Jvm.Cond.privateMethod ({ cls := "TermLogModel", name := "octet", desc := "(I)I" } : Jvm.MethodName)) ∈ lw_tbl := lw_at lw_m8 222 rfl
theorem q2060 : (Jvm.Cond.instanceMethod ({ cls := "TermLogModel", name := "octet", desc := "(I)I" } : Jvm.MethodName)) ∈ lw_all := lw_g (lw_at lw_m8 223 rfl) rfl
theorem q2061 : (Jvm.Cond.code ({ cls := "TermLogModel", name := "octet", desc := "(I)I" } : Jvm.MethodName) prog_18_method_28_code (2 : Nat) (Option.some Jvm.ClassFile.FieldType.int)) ∈ lw_all := lw_g (lw_at lw_m8 224 rfl) rfl
theorem q2063 : (Jvm.Cond.instanceMethod ({ cls := "TermLogModel", name := "count", desc := "(I)I" } : Jvm.MethodName)) ∈ lw_all := lw_g (lw_at lw_m8 226 rfl) rfl
theorem q2064 : (Jvm.Cond.selects "TermLogModel" ({ cls := "TermLogModel", name := "count", desc := "(I)I" } : Jvm.MethodName) ({ cls := "TermLogModel", name := "count", desc := "(I)I" } : Jvm.MethodName)) ∈ lw_all := lw_g (lw_at lw_m8 227 rfl) rfl
theorem q2065 : (Jvm.Cond.code ({ cls := "TermLogModel", name := "count", desc := "(I)I" } : Jvm.MethodName) prog_18_method_144_code (2 : Nat) (Option.some Jvm.ClassFile.FieldType.int)) ∈ lw_all := lw_g (lw_at lw_m8 228 rfl) rfl
theorem q2066 : (Jvm.Cond.methodLink "TermLogModel" (520 : Nat) ({ cls := "TermLogModel", name := "upSet", desc := "()I" } : Jvm.MethodName)) ∈ lw_all := lw_g (lw_at lw_m8 229 rfl) rfl
theorem q2067 : (Jvm.Cond.privateMethod ({ cls := "TermLogModel", name := "upSet", desc := "()I" } : Jvm.MethodName)) ∈ lw_tbl := lw_at lw_m8 230 rfl
theorem q2068 : (Jvm.Cond.instanceMethod ({ cls := "TermLogModel", name := "upSet", desc := "()I" } : Jvm.MethodName)) ∈ lw_all := lw_g (lw_at lw_m8 231 rfl) rfl
theorem q2069 : (Jvm.Cond.code ({ cls := "TermLogModel", name := "upSet", desc := "()I" } : Jvm.MethodName) prog_18_method_142_code (3 : Nat) (Option.some Jvm.ClassFile.FieldType.int)) ∈ lw_all := lw_g (lw_at lw_m8 232 rfl) rfl
theorem q2070 : (Jvm.Cond.methodLink "TermLogModel" (523 : Nat) ({ cls := "TermLogModel", name := "cutMany", desc := "()I" } : Jvm.MethodName)) ∈ lw_all := lw_g (lw_at lw_m8 233 rfl) rfl
theorem q2071 : (Jvm.Cond.privateMethod ({ cls := "TermLogModel", name := "cutMany", desc := "()I" } : Jvm.MethodName)) ∈ lw_tbl := lw_at lw_m8 234 rfl
theorem q2072 : (Jvm.Cond.instanceMethod ({ cls := "TermLogModel", name := "cutMany", desc := "()I" } : Jvm.MethodName)) ∈ lw_all := lw_g (lw_at lw_m8 235 rfl) rfl
theorem q2073 : (Jvm.Cond.code ({ cls := "TermLogModel", name := "cutMany", desc := "()I" } : Jvm.MethodName) prog_18_method_143_code (3 : Nat) (Option.some Jvm.ClassFile.FieldType.int)) ∈ lw_all := lw_g (lw_at lw_m8 236 rfl) rfl
theorem in_X8 : ∀ w ∈ wsX80, w ∈ lw_all := lw_in wsX80 [1446, 1448, 1450, 1452, 1454, 1456, 1458, 1460, 1462, 1464, 1466, 1468, 1470, 1472, 1474, 1476, 1478, 1480, 1482, 1484, 1486, 1488, 1490, 1492, 1494, 1496, 1498, 1500, 1502, 1504, 1506, 1508, 1510, 1512, 1514, 1516, 1518, 1520, 1522, 1524, 1526, 1528, 1530, 1532, 1534] (by decide +kernel) (by decide +kernel)

