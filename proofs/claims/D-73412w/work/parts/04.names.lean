/-! TermLog -/
set_option maxRecDepth 100000
def RX0 : String := "TermLog"
def TX0 : u_T := fun k => match k with
  | 0 => ("TermLog", "moment", "LTermLog$Moment;", true)
  | 1 => ("TermLog", "cluster", "LTermLog$Cluster;", true)
  | 2 => ("TermLog", "then", "LTermLog$Cluster;", true)
  | 3 => ("TermLog", "kept", "LTermLog$Cluster;", true)
  | 4 => ("TermLog", "tape", "[B", true)
  | 5 => ("TermLog", "law", "LTermLog$Text;", false)
  | 6 => ("TermLog", "taped", "I", false)
  | 7 => ("TermLog", "isKept", "Z", false)
  | _ => ("TermLog", "ticked", "Z", false)
def tyX0 : Nat → FieldType := fun k => match k with
  | 0 => .object "TermLog$Moment"
  | 1 => .object "TermLog$Cluster"
  | 2 => .object "TermLog$Cluster"
  | 3 => .object "TermLog$Cluster"
  | 4 => .array .byte
  | 5 => .object "TermLog$Text"
  | 6 => .int
  | 7 => .boolean
  | _ => .boolean
abbrev wsX00 : List Cond := u_ws RX0 TX0 9
theorem nmX0 : ∀ a, a < 9 → ∀ b, b < 9 → a ≠ b → (TX0 a).2.1 ≠ (TX0 b).2.1 := by decide +kernel
theorem tyX0_ok : ∀ k, k < 9 → parseFieldDescriptor (TX0 k).2.2.1 = some (tyX0 k) := by decide +kernel
abbrev cX0_init : ByteArray := prog_1_method_7_code
def yX0_init : MethodName := ⟨RX0, "<init>", "()V"⟩
def dkwX0_init_3 : List UInt8 := [180, 0, 34, 4, 181, 0, 55, 42, 180, 0, 34, 16, 7, 182, 0, 59, 177]
abbrev dktX0_init_3 : List UInt8 := dkwX0_init_3 ++ []
def dkwX0_init_2 : List UInt8 := [181, 0, 41, 42, 17, 1, 4, 188, 8, 181, 0, 44, 42, 187, 0, 48, 89, 183, 0, 50, 181, 0, 51, 42]
abbrev dktX0_init_2 : List UInt8 := dkwX0_init_2 ++ dktX0_init_3
def dkwX0_init_1 : List UInt8 := [181, 0, 34, 42, 187, 0, 29, 89, 42, 183, 0, 31, 181, 0, 38, 42, 187, 0, 29, 89, 42, 183, 0, 31]
abbrev dktX0_init_1 : List UInt8 := dkwX0_init_1 ++ dktX0_init_2
def dkwX0_init_0 : List UInt8 := [42, 183, 0, 16, 42, 187, 0, 22, 89, 183, 0, 24, 181, 0, 25, 42, 187, 0, 29, 89, 42, 183, 0, 31]
abbrev dktX0_init_0 : List UInt8 := dkwX0_init_0 ++ dktX0_init_1
theorem dksX0_init_0 : cX0_init.data.toList.drop 0 = dktX0_init_0 := by decide +kernel
theorem dksX0_init_1 : cX0_init.data.toList.drop 24 = dktX0_init_1 := dk_seg dksX0_init_0 24 rfl rfl
theorem dksX0_init_2 : cX0_init.data.toList.drop 48 = dktX0_init_2 := dk_seg dksX0_init_1 24 rfl rfl
theorem dksX0_init_3 : cX0_init.data.toList.drop 72 = dktX0_init_3 := dk_seg dksX0_init_2 24 rfl rfl
theorem dX0_init_0 : decode cX0_init 0 = .ok (.aload_n 0, 1) := dk_42 (dk_at dksX0_init_0 0 rfl rfl)
theorem dX0_init_1 : decode cX0_init 1 = .ok (.invokespecial 16, 3) := dk_183 0 16 (dk_at dksX0_init_0 1 rfl rfl)
theorem dX0_init_4 : decode cX0_init 4 = .ok (.aload_n 0, 1) := dk_42 (dk_at dksX0_init_0 4 rfl rfl)
theorem dX0_init_5 : decode cX0_init 5 = .ok (.new 22, 3) := dk_187 0 22 (dk_at dksX0_init_0 5 rfl rfl)
theorem dX0_init_8 : decode cX0_init 8 = .ok (.dup, 1) := dk_89 (dk_at dksX0_init_0 8 rfl rfl)
theorem dX0_init_9 : decode cX0_init 9 = .ok (.invokespecial 24, 3) := dk_183 0 24 (dk_at dksX0_init_0 9 rfl rfl)
theorem dX0_init_12 : decode cX0_init 12 = .ok (.putfield 25, 3) := dk_181 0 25 (dk_at dksX0_init_0 12 rfl rfl)
theorem dX0_init_15 : decode cX0_init 15 = .ok (.aload_n 0, 1) := dk_42 (dk_at dksX0_init_0 15 rfl rfl)
theorem dX0_init_16 : decode cX0_init 16 = .ok (.new 29, 3) := dk_187 0 29 (dk_at dksX0_init_0 16 rfl rfl)
theorem dX0_init_19 : decode cX0_init 19 = .ok (.dup, 1) := dk_89 (dk_at dksX0_init_0 19 rfl rfl)
theorem dX0_init_20 : decode cX0_init 20 = .ok (.aload_n 0, 1) := dk_42 (dk_at dksX0_init_0 20 rfl rfl)
theorem dX0_init_21 : decode cX0_init 21 = .ok (.invokespecial 31, 3) := dk_183 0 31 (dk_at dksX0_init_0 21 rfl rfl)
theorem dX0_init_24 : decode cX0_init 24 = .ok (.putfield 34, 3) := dk_181 0 34 (dk_at dksX0_init_1 0 rfl rfl)
theorem dX0_init_27 : decode cX0_init 27 = .ok (.aload_n 0, 1) := dk_42 (dk_at dksX0_init_1 3 rfl rfl)
theorem dX0_init_28 : decode cX0_init 28 = .ok (.new 29, 3) := dk_187 0 29 (dk_at dksX0_init_1 4 rfl rfl)
theorem dX0_init_31 : decode cX0_init 31 = .ok (.dup, 1) := dk_89 (dk_at dksX0_init_1 7 rfl rfl)
theorem dX0_init_32 : decode cX0_init 32 = .ok (.aload_n 0, 1) := dk_42 (dk_at dksX0_init_1 8 rfl rfl)
theorem dX0_init_33 : decode cX0_init 33 = .ok (.invokespecial 31, 3) := dk_183 0 31 (dk_at dksX0_init_1 9 rfl rfl)
theorem dX0_init_36 : decode cX0_init 36 = .ok (.putfield 38, 3) := dk_181 0 38 (dk_at dksX0_init_1 12 rfl rfl)
theorem dX0_init_39 : decode cX0_init 39 = .ok (.aload_n 0, 1) := dk_42 (dk_at dksX0_init_1 15 rfl rfl)
theorem dX0_init_40 : decode cX0_init 40 = .ok (.new 29, 3) := dk_187 0 29 (dk_at dksX0_init_1 16 rfl rfl)
theorem dX0_init_43 : decode cX0_init 43 = .ok (.dup, 1) := dk_89 (dk_at dksX0_init_1 19 rfl rfl)
theorem dX0_init_44 : decode cX0_init 44 = .ok (.aload_n 0, 1) := dk_42 (dk_at dksX0_init_1 20 rfl rfl)
theorem dX0_init_45 : decode cX0_init 45 = .ok (.invokespecial 31, 3) := dk_183 0 31 (dk_at dksX0_init_1 21 rfl rfl)
theorem dX0_init_48 : decode cX0_init 48 = .ok (.putfield 41, 3) := dk_181 0 41 (dk_at dksX0_init_2 0 rfl rfl)
theorem dX0_init_51 : decode cX0_init 51 = .ok (.aload_n 0, 1) := dk_42 (dk_at dksX0_init_2 3 rfl rfl)
theorem dX0_init_52 : decode cX0_init 52 = .ok (.sipush 260, 3) := dk_17 1 4 (dk_at dksX0_init_2 4 rfl rfl)
theorem dX0_init_55 : decode cX0_init 55 = .ok (.newarray .byte, 2) := dk_188_8 (dk_at dksX0_init_2 7 rfl rfl)
theorem dX0_init_57 : decode cX0_init 57 = .ok (.putfield 44, 3) := dk_181 0 44 (dk_at dksX0_init_2 9 rfl rfl)
theorem dX0_init_60 : decode cX0_init 60 = .ok (.aload_n 0, 1) := dk_42 (dk_at dksX0_init_2 12 rfl rfl)
theorem dX0_init_61 : decode cX0_init 61 = .ok (.new 48, 3) := dk_187 0 48 (dk_at dksX0_init_2 13 rfl rfl)
theorem dX0_init_64 : decode cX0_init 64 = .ok (.dup, 1) := dk_89 (dk_at dksX0_init_2 16 rfl rfl)
theorem dX0_init_65 : decode cX0_init 65 = .ok (.invokespecial 50, 3) := dk_183 0 50 (dk_at dksX0_init_2 17 rfl rfl)
theorem dX0_init_68 : decode cX0_init 68 = .ok (.putfield 51, 3) := dk_181 0 51 (dk_at dksX0_init_2 20 rfl rfl)
theorem dX0_init_71 : decode cX0_init 71 = .ok (.aload_n 0, 1) := dk_42 (dk_at dksX0_init_2 23 rfl rfl)
theorem dX0_init_72 : decode cX0_init 72 = .ok (.getfield 34, 3) := dk_180 0 34 (dk_at dksX0_init_3 0 rfl rfl)
theorem dX0_init_75 : decode cX0_init 75 = .ok (.iconst 1, 1) := dk_4 (dk_at dksX0_init_3 3 rfl rfl)
theorem dX0_init_76 : decode cX0_init 76 = .ok (.putfield 55, 3) := dk_181 0 55 (dk_at dksX0_init_3 4 rfl rfl)
theorem dX0_init_79 : decode cX0_init 79 = .ok (.aload_n 0, 1) := dk_42 (dk_at dksX0_init_3 7 rfl rfl)
theorem dX0_init_80 : decode cX0_init 80 = .ok (.getfield 34, 3) := dk_180 0 34 (dk_at dksX0_init_3 8 rfl rfl)
theorem dX0_init_83 : decode cX0_init 83 = .ok (.bipush 7, 2) := dk_16 7 (dk_at dksX0_init_3 11 rfl rfl)
theorem dX0_init_85 : decode cX0_init 85 = .ok (.invokevirtual 59, 3) := dk_182 0 59 (dk_at dksX0_init_3 13 rfl rfl)
theorem dX0_init_88 : decode cX0_init 88 = .ok (.return_, 1) := dk_177 (dk_at dksX0_init_3 16 rfl rfl)
abbrev cX0_found : ByteArray := prog_1_method_8_code
def yX0_found : MethodName := ⟨RX0, "found", "(I)Z"⟩
def dkwX0_found_0 : List UInt8 := [27, 4, 16, 127, 184, 0, 63, 154, 0, 5, 3, 172, 42, 180, 0, 34, 27, 182, 0, 59, 4, 172]
abbrev dktX0_found_0 : List UInt8 := dkwX0_found_0 ++ []
theorem dksX0_found_0 : cX0_found.data.toList.drop 0 = dktX0_found_0 := by decide +kernel
theorem dX0_found_0 : decode cX0_found 0 = .ok (.iload_n 1, 1) := dk_27 (dk_at dksX0_found_0 0 rfl rfl)
theorem dX0_found_1 : decode cX0_found 1 = .ok (.iconst 1, 1) := dk_4 (dk_at dksX0_found_0 1 rfl rfl)
theorem dX0_found_2 : decode cX0_found 2 = .ok (.bipush 127, 2) := dk_16 127 (dk_at dksX0_found_0 2 rfl rfl)
theorem dX0_found_4 : decode cX0_found 4 = .ok (.invokestatic 63, 3) := dk_184 0 63 (dk_at dksX0_found_0 4 rfl rfl)
theorem dX0_found_7 : decode cX0_found 7 = .ok (.ifCond .ne 5, 3) := dk_154 0 5 (dk_at dksX0_found_0 7 rfl rfl)
theorem dX0_found_10 : decode cX0_found 10 = .ok (.iconst 0, 1) := dk_3 (dk_at dksX0_found_0 10 rfl rfl)
theorem dX0_found_11 : decode cX0_found 11 = .ok (.ireturn, 1) := dk_172 (dk_at dksX0_found_0 11 rfl rfl)
theorem dX0_found_12 : decode cX0_found 12 = .ok (.aload_n 0, 1) := dk_42 (dk_at dksX0_found_0 12 rfl rfl)
theorem dX0_found_13 : decode cX0_found 13 = .ok (.getfield 34, 3) := dk_180 0 34 (dk_at dksX0_found_0 13 rfl rfl)
theorem dX0_found_16 : decode cX0_found 16 = .ok (.iload_n 1, 1) := dk_27 (dk_at dksX0_found_0 16 rfl rfl)
theorem dX0_found_17 : decode cX0_found 17 = .ok (.invokevirtual 59, 3) := dk_182 0 59 (dk_at dksX0_found_0 17 rfl rfl)
theorem dX0_found_20 : decode cX0_found 20 = .ok (.iconst 1, 1) := dk_4 (dk_at dksX0_found_0 20 rfl rfl)
theorem dX0_found_21 : decode cX0_found 21 = .ok (.ireturn, 1) := dk_172 (dk_at dksX0_found_0 21 rfl rfl)
abbrev cX0_within : ByteArray := prog_1_method_2_code
def yX0_within : MethodName := ⟨RX0, "within", "(III)Z"⟩
def dkwX0_within_0 : List UInt8 := [26, 27, 161, 0, 12, 26, 28, 163, 0, 7, 4, 167, 0, 4, 3, 172]
abbrev dktX0_within_0 : List UInt8 := dkwX0_within_0 ++ []
theorem dksX0_within_0 : cX0_within.data.toList.drop 0 = dktX0_within_0 := by decide +kernel
theorem dX0_within_0 : decode cX0_within 0 = .ok (.iload_n 0, 1) := dk_26 (dk_at dksX0_within_0 0 rfl rfl)
theorem dX0_within_1 : decode cX0_within 1 = .ok (.iload_n 1, 1) := dk_27 (dk_at dksX0_within_0 1 rfl rfl)
theorem dX0_within_2 : decode cX0_within 2 = .ok (.if_icmp .lt 12, 3) := dk_161 0 12 (dk_at dksX0_within_0 2 rfl rfl)
theorem dX0_within_5 : decode cX0_within 5 = .ok (.iload_n 0, 1) := dk_26 (dk_at dksX0_within_0 5 rfl rfl)
theorem dX0_within_6 : decode cX0_within 6 = .ok (.iload_n 2, 1) := dk_28 (dk_at dksX0_within_0 6 rfl rfl)
theorem dX0_within_7 : decode cX0_within 7 = .ok (.if_icmp .gt 7, 3) := dk_163 0 7 (dk_at dksX0_within_0 7 rfl rfl)
theorem dX0_within_10 : decode cX0_within 10 = .ok (.iconst 1, 1) := dk_4 (dk_at dksX0_within_0 10 rfl rfl)
theorem dX0_within_11 : decode cX0_within 11 = .ok (.goto 4, 3) := dk_167 0 4 (dk_at dksX0_within_0 11 rfl rfl)
theorem dX0_within_14 : decode cX0_within 14 = .ok (.iconst 0, 1) := dk_3 (dk_at dksX0_within_0 14 rfl rfl)
theorem dX0_within_15 : decode cX0_within 15 = .ok (.ireturn, 1) := dk_172 (dk_at dksX0_within_0 15 rfl rfl)
abbrev cX0_crash : ByteArray := prog_1_method_9_code
def yX0_crash : MethodName := ⟨RX0, "crash", "(I)Z"⟩
def dkwX0_crash_2 : List UInt8 := [180, 0, 34, 180, 0, 71, 27, 50, 3, 181, 0, 84, 4, 172]
abbrev dktX0_crash_2 : List UInt8 := dkwX0_crash_2 ++ []
def dkwX0_crash_1 : List UInt8 := [42, 180, 0, 34, 27, 182, 0, 81, 42, 180, 0, 34, 180, 0, 71, 27, 50, 3, 181, 0, 75, 42]
abbrev dktX0_crash_1 : List UInt8 := dkwX0_crash_1 ++ dktX0_crash_2
def dkwX0_crash_0 : List UInt8 := [27, 184, 0, 67, 153, 0, 18, 42, 180, 0, 34, 180, 0, 71, 27, 50, 180, 0, 75, 154, 0, 5, 3, 172]
abbrev dktX0_crash_0 : List UInt8 := dkwX0_crash_0 ++ dktX0_crash_1
theorem dksX0_crash_0 : cX0_crash.data.toList.drop 0 = dktX0_crash_0 := by decide +kernel
theorem dksX0_crash_1 : cX0_crash.data.toList.drop 24 = dktX0_crash_1 := dk_seg dksX0_crash_0 24 rfl rfl
theorem dksX0_crash_2 : cX0_crash.data.toList.drop 46 = dktX0_crash_2 := dk_seg dksX0_crash_1 22 rfl rfl
theorem dX0_crash_0 : decode cX0_crash 0 = .ok (.iload_n 1, 1) := dk_27 (dk_at dksX0_crash_0 0 rfl rfl)
theorem dX0_crash_1 : decode cX0_crash 1 = .ok (.invokestatic 67, 3) := dk_184 0 67 (dk_at dksX0_crash_0 1 rfl rfl)
theorem dX0_crash_4 : decode cX0_crash 4 = .ok (.ifCond .eq 18, 3) := dk_153 0 18 (dk_at dksX0_crash_0 4 rfl rfl)
theorem dX0_crash_7 : decode cX0_crash 7 = .ok (.aload_n 0, 1) := dk_42 (dk_at dksX0_crash_0 7 rfl rfl)
theorem dX0_crash_8 : decode cX0_crash 8 = .ok (.getfield 34, 3) := dk_180 0 34 (dk_at dksX0_crash_0 8 rfl rfl)
theorem dX0_crash_11 : decode cX0_crash 11 = .ok (.getfield 71, 3) := dk_180 0 71 (dk_at dksX0_crash_0 11 rfl rfl)
theorem dX0_crash_14 : decode cX0_crash 14 = .ok (.iload_n 1, 1) := dk_27 (dk_at dksX0_crash_0 14 rfl rfl)
theorem dX0_crash_15 : decode cX0_crash 15 = .ok (.aaload, 1) := dk_50 (dk_at dksX0_crash_0 15 rfl rfl)
theorem dX0_crash_16 : decode cX0_crash 16 = .ok (.getfield 75, 3) := dk_180 0 75 (dk_at dksX0_crash_0 16 rfl rfl)
theorem dX0_crash_19 : decode cX0_crash 19 = .ok (.ifCond .ne 5, 3) := dk_154 0 5 (dk_at dksX0_crash_0 19 rfl rfl)
theorem dX0_crash_22 : decode cX0_crash 22 = .ok (.iconst 0, 1) := dk_3 (dk_at dksX0_crash_0 22 rfl rfl)
theorem dX0_crash_23 : decode cX0_crash 23 = .ok (.ireturn, 1) := dk_172 (dk_at dksX0_crash_0 23 rfl rfl)
theorem dX0_crash_24 : decode cX0_crash 24 = .ok (.aload_n 0, 1) := dk_42 (dk_at dksX0_crash_1 0 rfl rfl)
theorem dX0_crash_25 : decode cX0_crash 25 = .ok (.getfield 34, 3) := dk_180 0 34 (dk_at dksX0_crash_1 1 rfl rfl)
theorem dX0_crash_28 : decode cX0_crash 28 = .ok (.iload_n 1, 1) := dk_27 (dk_at dksX0_crash_1 4 rfl rfl)
theorem dX0_crash_29 : decode cX0_crash 29 = .ok (.invokevirtual 81, 3) := dk_182 0 81 (dk_at dksX0_crash_1 5 rfl rfl)
theorem dX0_crash_32 : decode cX0_crash 32 = .ok (.aload_n 0, 1) := dk_42 (dk_at dksX0_crash_1 8 rfl rfl)
theorem dX0_crash_33 : decode cX0_crash 33 = .ok (.getfield 34, 3) := dk_180 0 34 (dk_at dksX0_crash_1 9 rfl rfl)
theorem dX0_crash_36 : decode cX0_crash 36 = .ok (.getfield 71, 3) := dk_180 0 71 (dk_at dksX0_crash_1 12 rfl rfl)
theorem dX0_crash_39 : decode cX0_crash 39 = .ok (.iload_n 1, 1) := dk_27 (dk_at dksX0_crash_1 15 rfl rfl)
theorem dX0_crash_40 : decode cX0_crash 40 = .ok (.aaload, 1) := dk_50 (dk_at dksX0_crash_1 16 rfl rfl)
theorem dX0_crash_41 : decode cX0_crash 41 = .ok (.iconst 0, 1) := dk_3 (dk_at dksX0_crash_1 17 rfl rfl)
theorem dX0_crash_42 : decode cX0_crash 42 = .ok (.putfield 75, 3) := dk_181 0 75 (dk_at dksX0_crash_1 18 rfl rfl)
theorem dX0_crash_45 : decode cX0_crash 45 = .ok (.aload_n 0, 1) := dk_42 (dk_at dksX0_crash_1 21 rfl rfl)
theorem dX0_crash_46 : decode cX0_crash 46 = .ok (.getfield 34, 3) := dk_180 0 34 (dk_at dksX0_crash_2 0 rfl rfl)
theorem dX0_crash_49 : decode cX0_crash 49 = .ok (.getfield 71, 3) := dk_180 0 71 (dk_at dksX0_crash_2 3 rfl rfl)
theorem dX0_crash_52 : decode cX0_crash 52 = .ok (.iload_n 1, 1) := dk_27 (dk_at dksX0_crash_2 6 rfl rfl)
theorem dX0_crash_53 : decode cX0_crash 53 = .ok (.aaload, 1) := dk_50 (dk_at dksX0_crash_2 7 rfl rfl)
theorem dX0_crash_54 : decode cX0_crash 54 = .ok (.iconst 0, 1) := dk_3 (dk_at dksX0_crash_2 8 rfl rfl)
theorem dX0_crash_55 : decode cX0_crash 55 = .ok (.putfield 84, 3) := dk_181 0 84 (dk_at dksX0_crash_2 9 rfl rfl)
theorem dX0_crash_58 : decode cX0_crash 58 = .ok (.iconst 1, 1) := dk_4 (dk_at dksX0_crash_2 12 rfl rfl)
theorem dX0_crash_59 : decode cX0_crash 59 = .ok (.ireturn, 1) := dk_172 (dk_at dksX0_crash_2 13 rfl rfl)
abbrev cX0_isNode : ByteArray := prog_1_method_6_code
def yX0_isNode : MethodName := ⟨RX0, "isNode", "(I)Z"⟩
def dkwX0_isNode_0 : List UInt8 := [26, 16, 7, 184, 0, 12, 172]
abbrev dktX0_isNode_0 : List UInt8 := dkwX0_isNode_0 ++ []
theorem dksX0_isNode_0 : cX0_isNode.data.toList.drop 0 = dktX0_isNode_0 := by decide +kernel
theorem dX0_isNode_0 : decode cX0_isNode 0 = .ok (.iload_n 0, 1) := dk_26 (dk_at dksX0_isNode_0 0 rfl rfl)
theorem dX0_isNode_1 : decode cX0_isNode 1 = .ok (.bipush 7, 2) := dk_16 7 (dk_at dksX0_isNode_0 1 rfl rfl)
theorem dX0_isNode_3 : decode cX0_isNode 3 = .ok (.invokestatic 12, 3) := dk_184 0 12 (dk_at dksX0_isNode_0 3 rfl rfl)
theorem dX0_isNode_6 : decode cX0_isNode 6 = .ok (.ireturn, 1) := dk_172 (dk_at dksX0_isNode_0 6 rfl rfl)
abbrev cX0_in : ByteArray := prog_1_method_1_code
def yX0_in : MethodName := ⟨RX0, "in", "(II)Z"⟩
def dkwX0_in_0 : List UInt8 := [26, 155, 0, 12, 26, 27, 162, 0, 7, 4, 167, 0, 4, 3, 172]
abbrev dktX0_in_0 : List UInt8 := dkwX0_in_0 ++ []
theorem dksX0_in_0 : cX0_in.data.toList.drop 0 = dktX0_in_0 := by decide +kernel
theorem dX0_in_0 : decode cX0_in 0 = .ok (.iload_n 0, 1) := dk_26 (dk_at dksX0_in_0 0 rfl rfl)
theorem dX0_in_1 : decode cX0_in 1 = .ok (.ifCond .lt 12, 3) := dk_155 0 12 (dk_at dksX0_in_0 1 rfl rfl)
theorem dX0_in_4 : decode cX0_in 4 = .ok (.iload_n 0, 1) := dk_26 (dk_at dksX0_in_0 4 rfl rfl)
theorem dX0_in_5 : decode cX0_in 5 = .ok (.iload_n 1, 1) := dk_27 (dk_at dksX0_in_0 5 rfl rfl)
theorem dX0_in_6 : decode cX0_in 6 = .ok (.if_icmp .ge 7, 3) := dk_162 0 7 (dk_at dksX0_in_0 6 rfl rfl)
theorem dX0_in_9 : decode cX0_in 9 = .ok (.iconst 1, 1) := dk_4 (dk_at dksX0_in_0 9 rfl rfl)
theorem dX0_in_10 : decode cX0_in 10 = .ok (.goto 4, 3) := dk_167 0 4 (dk_at dksX0_in_0 10 rfl rfl)
theorem dX0_in_13 : decode cX0_in 13 = .ok (.iconst 0, 1) := dk_3 (dk_at dksX0_in_0 13 rfl rfl)
theorem dX0_in_14 : decode cX0_in 14 = .ok (.ireturn, 1) := dk_172 (dk_at dksX0_in_0 14 rfl rfl)
abbrev cX0_comeUp : ByteArray := prog_1_method_10_code
def yX0_comeUp : MethodName := ⟨RX0, "comeUp", "(I)Z"⟩
def dkwX0_comeUp_1 : List UInt8 := [42, 180, 0, 34, 180, 0, 71, 27, 50, 182, 0, 87, 42, 180, 0, 34, 27, 182, 0, 90, 4, 172]
abbrev dktX0_comeUp_1 : List UInt8 := dkwX0_comeUp_1 ++ []
def dkwX0_comeUp_0 : List UInt8 := [27, 184, 0, 67, 153, 0, 18, 42, 180, 0, 34, 180, 0, 71, 27, 50, 180, 0, 75, 153, 0, 5, 3, 172]
abbrev dktX0_comeUp_0 : List UInt8 := dkwX0_comeUp_0 ++ dktX0_comeUp_1
theorem dksX0_comeUp_0 : cX0_comeUp.data.toList.drop 0 = dktX0_comeUp_0 := by decide +kernel
theorem dksX0_comeUp_1 : cX0_comeUp.data.toList.drop 24 = dktX0_comeUp_1 := dk_seg dksX0_comeUp_0 24 rfl rfl
theorem dX0_comeUp_0 : decode cX0_comeUp 0 = .ok (.iload_n 1, 1) := dk_27 (dk_at dksX0_comeUp_0 0 rfl rfl)
theorem dX0_comeUp_1 : decode cX0_comeUp 1 = .ok (.invokestatic 67, 3) := dk_184 0 67 (dk_at dksX0_comeUp_0 1 rfl rfl)
theorem dX0_comeUp_4 : decode cX0_comeUp 4 = .ok (.ifCond .eq 18, 3) := dk_153 0 18 (dk_at dksX0_comeUp_0 4 rfl rfl)
theorem dX0_comeUp_7 : decode cX0_comeUp 7 = .ok (.aload_n 0, 1) := dk_42 (dk_at dksX0_comeUp_0 7 rfl rfl)
theorem dX0_comeUp_8 : decode cX0_comeUp 8 = .ok (.getfield 34, 3) := dk_180 0 34 (dk_at dksX0_comeUp_0 8 rfl rfl)
theorem dX0_comeUp_11 : decode cX0_comeUp 11 = .ok (.getfield 71, 3) := dk_180 0 71 (dk_at dksX0_comeUp_0 11 rfl rfl)
theorem dX0_comeUp_14 : decode cX0_comeUp 14 = .ok (.iload_n 1, 1) := dk_27 (dk_at dksX0_comeUp_0 14 rfl rfl)
theorem dX0_comeUp_15 : decode cX0_comeUp 15 = .ok (.aaload, 1) := dk_50 (dk_at dksX0_comeUp_0 15 rfl rfl)
theorem dX0_comeUp_16 : decode cX0_comeUp 16 = .ok (.getfield 75, 3) := dk_180 0 75 (dk_at dksX0_comeUp_0 16 rfl rfl)
theorem dX0_comeUp_19 : decode cX0_comeUp 19 = .ok (.ifCond .eq 5, 3) := dk_153 0 5 (dk_at dksX0_comeUp_0 19 rfl rfl)
theorem dX0_comeUp_22 : decode cX0_comeUp 22 = .ok (.iconst 0, 1) := dk_3 (dk_at dksX0_comeUp_0 22 rfl rfl)
theorem dX0_comeUp_23 : decode cX0_comeUp 23 = .ok (.ireturn, 1) := dk_172 (dk_at dksX0_comeUp_0 23 rfl rfl)
theorem dX0_comeUp_24 : decode cX0_comeUp 24 = .ok (.aload_n 0, 1) := dk_42 (dk_at dksX0_comeUp_1 0 rfl rfl)
theorem dX0_comeUp_25 : decode cX0_comeUp 25 = .ok (.getfield 34, 3) := dk_180 0 34 (dk_at dksX0_comeUp_1 1 rfl rfl)
theorem dX0_comeUp_28 : decode cX0_comeUp 28 = .ok (.getfield 71, 3) := dk_180 0 71 (dk_at dksX0_comeUp_1 4 rfl rfl)
theorem dX0_comeUp_31 : decode cX0_comeUp 31 = .ok (.iload_n 1, 1) := dk_27 (dk_at dksX0_comeUp_1 7 rfl rfl)
theorem dX0_comeUp_32 : decode cX0_comeUp 32 = .ok (.aaload, 1) := dk_50 (dk_at dksX0_comeUp_1 8 rfl rfl)
theorem dX0_comeUp_33 : decode cX0_comeUp 33 = .ok (.invokevirtual 87, 3) := dk_182 0 87 (dk_at dksX0_comeUp_1 9 rfl rfl)
theorem dX0_comeUp_36 : decode cX0_comeUp 36 = .ok (.aload_n 0, 1) := dk_42 (dk_at dksX0_comeUp_1 12 rfl rfl)
theorem dX0_comeUp_37 : decode cX0_comeUp 37 = .ok (.getfield 34, 3) := dk_180 0 34 (dk_at dksX0_comeUp_1 13 rfl rfl)
theorem dX0_comeUp_40 : decode cX0_comeUp 40 = .ok (.iload_n 1, 1) := dk_27 (dk_at dksX0_comeUp_1 16 rfl rfl)
theorem dX0_comeUp_41 : decode cX0_comeUp 41 = .ok (.invokevirtual 90, 3) := dk_182 0 90 (dk_at dksX0_comeUp_1 17 rfl rfl)
theorem dX0_comeUp_44 : decode cX0_comeUp 44 = .ok (.iconst 1, 1) := dk_4 (dk_at dksX0_comeUp_1 20 rfl rfl)
theorem dX0_comeUp_45 : decode cX0_comeUp 45 = .ok (.ireturn, 1) := dk_172 (dk_at dksX0_comeUp_1 21 rfl rfl)
abbrev cX0_cut : ByteArray := prog_1_method_11_code
def yX0_cut : MethodName := ⟨RX0, "cut", "(IIZ)Z"⟩
def dkwX0_cut_4 : List UInt8 := [42, 180, 0, 34, 180, 0, 93, 28, 46, 4, 27, 120, 2, 130, 126, 79, 4, 172]
abbrev dktX0_cut_4 : List UInt8 := dkwX0_cut_4 ++ []
def dkwX0_cut_3 : List UInt8 := [180, 0, 93, 28, 29, 153, 0, 19, 42, 180, 0, 34, 180, 0, 93, 28, 46, 4, 27, 120, 128, 167, 0, 18]
abbrev dktX0_cut_3 : List UInt8 := dkwX0_cut_3 ++ dktX0_cut_4
def dkwX0_cut_2 : List UInt8 := [167, 0, 18, 42, 180, 0, 34, 180, 0, 93, 27, 46, 4, 28, 120, 2, 130, 126, 79, 42, 180, 0, 34]
abbrev dktX0_cut_2 : List UInt8 := dkwX0_cut_2 ++ dktX0_cut_3
def dkwX0_cut_1 : List UInt8 := [180, 0, 34, 180, 0, 93, 27, 29, 153, 0, 19, 42, 180, 0, 34, 180, 0, 93, 27, 46, 4, 28, 120, 128]
abbrev dktX0_cut_1 : List UInt8 := dkwX0_cut_1 ++ dktX0_cut_2
def dkwX0_cut_0 : List UInt8 := [27, 184, 0, 67, 153, 0, 15, 28, 184, 0, 67, 153, 0, 8, 27, 28, 160, 0, 5, 3, 172, 42]
abbrev dktX0_cut_0 : List UInt8 := dkwX0_cut_0 ++ dktX0_cut_1
theorem dksX0_cut_0 : cX0_cut.data.toList.drop 0 = dktX0_cut_0 := by decide +kernel
theorem dksX0_cut_1 : cX0_cut.data.toList.drop 22 = dktX0_cut_1 := dk_seg dksX0_cut_0 22 rfl rfl
theorem dksX0_cut_2 : cX0_cut.data.toList.drop 46 = dktX0_cut_2 := dk_seg dksX0_cut_1 24 rfl rfl
theorem dksX0_cut_3 : cX0_cut.data.toList.drop 69 = dktX0_cut_3 := dk_seg dksX0_cut_2 23 rfl rfl
theorem dksX0_cut_4 : cX0_cut.data.toList.drop 93 = dktX0_cut_4 := dk_seg dksX0_cut_3 24 rfl rfl
theorem dX0_cut_0 : decode cX0_cut 0 = .ok (.iload_n 1, 1) := dk_27 (dk_at dksX0_cut_0 0 rfl rfl)
theorem dX0_cut_1 : decode cX0_cut 1 = .ok (.invokestatic 67, 3) := dk_184 0 67 (dk_at dksX0_cut_0 1 rfl rfl)
theorem dX0_cut_4 : decode cX0_cut 4 = .ok (.ifCond .eq 15, 3) := dk_153 0 15 (dk_at dksX0_cut_0 4 rfl rfl)
theorem dX0_cut_7 : decode cX0_cut 7 = .ok (.iload_n 2, 1) := dk_28 (dk_at dksX0_cut_0 7 rfl rfl)
theorem dX0_cut_8 : decode cX0_cut 8 = .ok (.invokestatic 67, 3) := dk_184 0 67 (dk_at dksX0_cut_0 8 rfl rfl)
theorem dX0_cut_11 : decode cX0_cut 11 = .ok (.ifCond .eq 8, 3) := dk_153 0 8 (dk_at dksX0_cut_0 11 rfl rfl)
theorem dX0_cut_14 : decode cX0_cut 14 = .ok (.iload_n 1, 1) := dk_27 (dk_at dksX0_cut_0 14 rfl rfl)
theorem dX0_cut_15 : decode cX0_cut 15 = .ok (.iload_n 2, 1) := dk_28 (dk_at dksX0_cut_0 15 rfl rfl)
theorem dX0_cut_16 : decode cX0_cut 16 = .ok (.if_icmp .ne 5, 3) := dk_160 0 5 (dk_at dksX0_cut_0 16 rfl rfl)
theorem dX0_cut_19 : decode cX0_cut 19 = .ok (.iconst 0, 1) := dk_3 (dk_at dksX0_cut_0 19 rfl rfl)
theorem dX0_cut_20 : decode cX0_cut 20 = .ok (.ireturn, 1) := dk_172 (dk_at dksX0_cut_0 20 rfl rfl)
theorem dX0_cut_21 : decode cX0_cut 21 = .ok (.aload_n 0, 1) := dk_42 (dk_at dksX0_cut_0 21 rfl rfl)
theorem dX0_cut_22 : decode cX0_cut 22 = .ok (.getfield 34, 3) := dk_180 0 34 (dk_at dksX0_cut_1 0 rfl rfl)
theorem dX0_cut_25 : decode cX0_cut 25 = .ok (.getfield 93, 3) := dk_180 0 93 (dk_at dksX0_cut_1 3 rfl rfl)
theorem dX0_cut_28 : decode cX0_cut 28 = .ok (.iload_n 1, 1) := dk_27 (dk_at dksX0_cut_1 6 rfl rfl)
theorem dX0_cut_29 : decode cX0_cut 29 = .ok (.iload_n 3, 1) := dk_29 (dk_at dksX0_cut_1 7 rfl rfl)
theorem dX0_cut_30 : decode cX0_cut 30 = .ok (.ifCond .eq 19, 3) := dk_153 0 19 (dk_at dksX0_cut_1 8 rfl rfl)
theorem dX0_cut_33 : decode cX0_cut 33 = .ok (.aload_n 0, 1) := dk_42 (dk_at dksX0_cut_1 11 rfl rfl)
theorem dX0_cut_34 : decode cX0_cut 34 = .ok (.getfield 34, 3) := dk_180 0 34 (dk_at dksX0_cut_1 12 rfl rfl)
theorem dX0_cut_37 : decode cX0_cut 37 = .ok (.getfield 93, 3) := dk_180 0 93 (dk_at dksX0_cut_1 15 rfl rfl)
theorem dX0_cut_40 : decode cX0_cut 40 = .ok (.iload_n 1, 1) := dk_27 (dk_at dksX0_cut_1 18 rfl rfl)
theorem dX0_cut_41 : decode cX0_cut 41 = .ok (.iaload, 1) := dk_46 (dk_at dksX0_cut_1 19 rfl rfl)
theorem dX0_cut_42 : decode cX0_cut 42 = .ok (.iconst 1, 1) := dk_4 (dk_at dksX0_cut_1 20 rfl rfl)
theorem dX0_cut_43 : decode cX0_cut 43 = .ok (.iload_n 2, 1) := dk_28 (dk_at dksX0_cut_1 21 rfl rfl)
theorem dX0_cut_44 : decode cX0_cut 44 = .ok (.ishl, 1) := dk_120 (dk_at dksX0_cut_1 22 rfl rfl)
theorem dX0_cut_45 : decode cX0_cut 45 = .ok (.ior, 1) := dk_128 (dk_at dksX0_cut_1 23 rfl rfl)
theorem dX0_cut_46 : decode cX0_cut 46 = .ok (.goto 18, 3) := dk_167 0 18 (dk_at dksX0_cut_2 0 rfl rfl)
theorem dX0_cut_49 : decode cX0_cut 49 = .ok (.aload_n 0, 1) := dk_42 (dk_at dksX0_cut_2 3 rfl rfl)
theorem dX0_cut_50 : decode cX0_cut 50 = .ok (.getfield 34, 3) := dk_180 0 34 (dk_at dksX0_cut_2 4 rfl rfl)
theorem dX0_cut_53 : decode cX0_cut 53 = .ok (.getfield 93, 3) := dk_180 0 93 (dk_at dksX0_cut_2 7 rfl rfl)
theorem dX0_cut_56 : decode cX0_cut 56 = .ok (.iload_n 1, 1) := dk_27 (dk_at dksX0_cut_2 10 rfl rfl)
theorem dX0_cut_57 : decode cX0_cut 57 = .ok (.iaload, 1) := dk_46 (dk_at dksX0_cut_2 11 rfl rfl)
theorem dX0_cut_58 : decode cX0_cut 58 = .ok (.iconst 1, 1) := dk_4 (dk_at dksX0_cut_2 12 rfl rfl)
theorem dX0_cut_59 : decode cX0_cut 59 = .ok (.iload_n 2, 1) := dk_28 (dk_at dksX0_cut_2 13 rfl rfl)
theorem dX0_cut_60 : decode cX0_cut 60 = .ok (.ishl, 1) := dk_120 (dk_at dksX0_cut_2 14 rfl rfl)
theorem dX0_cut_61 : decode cX0_cut 61 = .ok (.iconst (-1), 1) := dk_2 (dk_at dksX0_cut_2 15 rfl rfl)
theorem dX0_cut_62 : decode cX0_cut 62 = .ok (.ixor, 1) := dk_130 (dk_at dksX0_cut_2 16 rfl rfl)
theorem dX0_cut_63 : decode cX0_cut 63 = .ok (.iand, 1) := dk_126 (dk_at dksX0_cut_2 17 rfl rfl)
theorem dX0_cut_64 : decode cX0_cut 64 = .ok (.iastore, 1) := dk_79 (dk_at dksX0_cut_2 18 rfl rfl)
theorem dX0_cut_65 : decode cX0_cut 65 = .ok (.aload_n 0, 1) := dk_42 (dk_at dksX0_cut_2 19 rfl rfl)
theorem dX0_cut_66 : decode cX0_cut 66 = .ok (.getfield 34, 3) := dk_180 0 34 (dk_at dksX0_cut_2 20 rfl rfl)
theorem dX0_cut_69 : decode cX0_cut 69 = .ok (.getfield 93, 3) := dk_180 0 93 (dk_at dksX0_cut_3 0 rfl rfl)
theorem dX0_cut_72 : decode cX0_cut 72 = .ok (.iload_n 2, 1) := dk_28 (dk_at dksX0_cut_3 3 rfl rfl)
theorem dX0_cut_73 : decode cX0_cut 73 = .ok (.iload_n 3, 1) := dk_29 (dk_at dksX0_cut_3 4 rfl rfl)
theorem dX0_cut_74 : decode cX0_cut 74 = .ok (.ifCond .eq 19, 3) := dk_153 0 19 (dk_at dksX0_cut_3 5 rfl rfl)
theorem dX0_cut_77 : decode cX0_cut 77 = .ok (.aload_n 0, 1) := dk_42 (dk_at dksX0_cut_3 8 rfl rfl)
theorem dX0_cut_78 : decode cX0_cut 78 = .ok (.getfield 34, 3) := dk_180 0 34 (dk_at dksX0_cut_3 9 rfl rfl)
theorem dX0_cut_81 : decode cX0_cut 81 = .ok (.getfield 93, 3) := dk_180 0 93 (dk_at dksX0_cut_3 12 rfl rfl)
theorem dX0_cut_84 : decode cX0_cut 84 = .ok (.iload_n 2, 1) := dk_28 (dk_at dksX0_cut_3 15 rfl rfl)
theorem dX0_cut_85 : decode cX0_cut 85 = .ok (.iaload, 1) := dk_46 (dk_at dksX0_cut_3 16 rfl rfl)
theorem dX0_cut_86 : decode cX0_cut 86 = .ok (.iconst 1, 1) := dk_4 (dk_at dksX0_cut_3 17 rfl rfl)
theorem dX0_cut_87 : decode cX0_cut 87 = .ok (.iload_n 1, 1) := dk_27 (dk_at dksX0_cut_3 18 rfl rfl)
theorem dX0_cut_88 : decode cX0_cut 88 = .ok (.ishl, 1) := dk_120 (dk_at dksX0_cut_3 19 rfl rfl)
theorem dX0_cut_89 : decode cX0_cut 89 = .ok (.ior, 1) := dk_128 (dk_at dksX0_cut_3 20 rfl rfl)
theorem dX0_cut_90 : decode cX0_cut 90 = .ok (.goto 18, 3) := dk_167 0 18 (dk_at dksX0_cut_3 21 rfl rfl)
theorem dX0_cut_93 : decode cX0_cut 93 = .ok (.aload_n 0, 1) := dk_42 (dk_at dksX0_cut_4 0 rfl rfl)
theorem dX0_cut_94 : decode cX0_cut 94 = .ok (.getfield 34, 3) := dk_180 0 34 (dk_at dksX0_cut_4 1 rfl rfl)
theorem dX0_cut_97 : decode cX0_cut 97 = .ok (.getfield 93, 3) := dk_180 0 93 (dk_at dksX0_cut_4 4 rfl rfl)
theorem dX0_cut_100 : decode cX0_cut 100 = .ok (.iload_n 2, 1) := dk_28 (dk_at dksX0_cut_4 7 rfl rfl)
theorem dX0_cut_101 : decode cX0_cut 101 = .ok (.iaload, 1) := dk_46 (dk_at dksX0_cut_4 8 rfl rfl)
theorem dX0_cut_102 : decode cX0_cut 102 = .ok (.iconst 1, 1) := dk_4 (dk_at dksX0_cut_4 9 rfl rfl)
theorem dX0_cut_103 : decode cX0_cut 103 = .ok (.iload_n 1, 1) := dk_27 (dk_at dksX0_cut_4 10 rfl rfl)
theorem dX0_cut_104 : decode cX0_cut 104 = .ok (.ishl, 1) := dk_120 (dk_at dksX0_cut_4 11 rfl rfl)
theorem dX0_cut_105 : decode cX0_cut 105 = .ok (.iconst (-1), 1) := dk_2 (dk_at dksX0_cut_4 12 rfl rfl)
theorem dX0_cut_106 : decode cX0_cut 106 = .ok (.ixor, 1) := dk_130 (dk_at dksX0_cut_4 13 rfl rfl)
theorem dX0_cut_107 : decode cX0_cut 107 = .ok (.iand, 1) := dk_126 (dk_at dksX0_cut_4 14 rfl rfl)
theorem dX0_cut_108 : decode cX0_cut 108 = .ok (.iastore, 1) := dk_79 (dk_at dksX0_cut_4 15 rfl rfl)
theorem dX0_cut_109 : decode cX0_cut 109 = .ok (.iconst 1, 1) := dk_4 (dk_at dksX0_cut_4 16 rfl rfl)
theorem dX0_cut_110 : decode cX0_cut 110 = .ok (.ireturn, 1) := dk_172 (dk_at dksX0_cut_4 17 rfl rfl)
abbrev cX0_compact : ByteArray := prog_1_method_12_code
def yX0_compact : MethodName := ⟨RX0, "compact", "(I)Z"⟩
def dkwX0_compact_2 : List UInt8 := [160, 0, 5, 3, 172, 42, 180, 0, 34, 180, 0, 71, 27, 50, 182, 0, 103, 4, 172]
abbrev dktX0_compact_2 : List UInt8 := dkwX0_compact_2 ++ []
def dkwX0_compact_1 : List UInt8 := [180, 0, 34, 180, 0, 71, 27, 50, 180, 0, 97, 42, 180, 0, 34, 180, 0, 71, 27, 50, 180, 0, 100]
abbrev dktX0_compact_1 : List UInt8 := dkwX0_compact_1 ++ dktX0_compact_2
def dkwX0_compact_0 : List UInt8 := [27, 184, 0, 67, 153, 0, 45, 42, 180, 0, 34, 180, 0, 71, 27, 50, 180, 0, 75, 153, 0, 30, 42]
abbrev dktX0_compact_0 : List UInt8 := dkwX0_compact_0 ++ dktX0_compact_1
theorem dksX0_compact_0 : cX0_compact.data.toList.drop 0 = dktX0_compact_0 := by decide +kernel
theorem dksX0_compact_1 : cX0_compact.data.toList.drop 23 = dktX0_compact_1 := dk_seg dksX0_compact_0 23 rfl rfl
theorem dksX0_compact_2 : cX0_compact.data.toList.drop 46 = dktX0_compact_2 := dk_seg dksX0_compact_1 23 rfl rfl
theorem dX0_compact_0 : decode cX0_compact 0 = .ok (.iload_n 1, 1) := dk_27 (dk_at dksX0_compact_0 0 rfl rfl)
theorem dX0_compact_1 : decode cX0_compact 1 = .ok (.invokestatic 67, 3) := dk_184 0 67 (dk_at dksX0_compact_0 1 rfl rfl)
theorem dX0_compact_4 : decode cX0_compact 4 = .ok (.ifCond .eq 45, 3) := dk_153 0 45 (dk_at dksX0_compact_0 4 rfl rfl)
theorem dX0_compact_7 : decode cX0_compact 7 = .ok (.aload_n 0, 1) := dk_42 (dk_at dksX0_compact_0 7 rfl rfl)
theorem dX0_compact_8 : decode cX0_compact 8 = .ok (.getfield 34, 3) := dk_180 0 34 (dk_at dksX0_compact_0 8 rfl rfl)
theorem dX0_compact_11 : decode cX0_compact 11 = .ok (.getfield 71, 3) := dk_180 0 71 (dk_at dksX0_compact_0 11 rfl rfl)
theorem dX0_compact_14 : decode cX0_compact 14 = .ok (.iload_n 1, 1) := dk_27 (dk_at dksX0_compact_0 14 rfl rfl)
theorem dX0_compact_15 : decode cX0_compact 15 = .ok (.aaload, 1) := dk_50 (dk_at dksX0_compact_0 15 rfl rfl)
theorem dX0_compact_16 : decode cX0_compact 16 = .ok (.getfield 75, 3) := dk_180 0 75 (dk_at dksX0_compact_0 16 rfl rfl)
theorem dX0_compact_19 : decode cX0_compact 19 = .ok (.ifCond .eq 30, 3) := dk_153 0 30 (dk_at dksX0_compact_0 19 rfl rfl)
theorem dX0_compact_22 : decode cX0_compact 22 = .ok (.aload_n 0, 1) := dk_42 (dk_at dksX0_compact_0 22 rfl rfl)
theorem dX0_compact_23 : decode cX0_compact 23 = .ok (.getfield 34, 3) := dk_180 0 34 (dk_at dksX0_compact_1 0 rfl rfl)
theorem dX0_compact_26 : decode cX0_compact 26 = .ok (.getfield 71, 3) := dk_180 0 71 (dk_at dksX0_compact_1 3 rfl rfl)
theorem dX0_compact_29 : decode cX0_compact 29 = .ok (.iload_n 1, 1) := dk_27 (dk_at dksX0_compact_1 6 rfl rfl)
theorem dX0_compact_30 : decode cX0_compact 30 = .ok (.aaload, 1) := dk_50 (dk_at dksX0_compact_1 7 rfl rfl)
theorem dX0_compact_31 : decode cX0_compact 31 = .ok (.getfield 97, 3) := dk_180 0 97 (dk_at dksX0_compact_1 8 rfl rfl)
theorem dX0_compact_34 : decode cX0_compact 34 = .ok (.aload_n 0, 1) := dk_42 (dk_at dksX0_compact_1 11 rfl rfl)
theorem dX0_compact_35 : decode cX0_compact 35 = .ok (.getfield 34, 3) := dk_180 0 34 (dk_at dksX0_compact_1 12 rfl rfl)
theorem dX0_compact_38 : decode cX0_compact 38 = .ok (.getfield 71, 3) := dk_180 0 71 (dk_at dksX0_compact_1 15 rfl rfl)
theorem dX0_compact_41 : decode cX0_compact 41 = .ok (.iload_n 1, 1) := dk_27 (dk_at dksX0_compact_1 18 rfl rfl)
theorem dX0_compact_42 : decode cX0_compact 42 = .ok (.aaload, 1) := dk_50 (dk_at dksX0_compact_1 19 rfl rfl)
theorem dX0_compact_43 : decode cX0_compact 43 = .ok (.getfield 100, 3) := dk_180 0 100 (dk_at dksX0_compact_1 20 rfl rfl)
theorem dX0_compact_46 : decode cX0_compact 46 = .ok (.if_icmp .ne 5, 3) := dk_160 0 5 (dk_at dksX0_compact_2 0 rfl rfl)
theorem dX0_compact_49 : decode cX0_compact 49 = .ok (.iconst 0, 1) := dk_3 (dk_at dksX0_compact_2 3 rfl rfl)
theorem dX0_compact_50 : decode cX0_compact 50 = .ok (.ireturn, 1) := dk_172 (dk_at dksX0_compact_2 4 rfl rfl)
theorem dX0_compact_51 : decode cX0_compact 51 = .ok (.aload_n 0, 1) := dk_42 (dk_at dksX0_compact_2 5 rfl rfl)
theorem dX0_compact_52 : decode cX0_compact 52 = .ok (.getfield 34, 3) := dk_180 0 34 (dk_at dksX0_compact_2 6 rfl rfl)
theorem dX0_compact_55 : decode cX0_compact 55 = .ok (.getfield 71, 3) := dk_180 0 71 (dk_at dksX0_compact_2 9 rfl rfl)
theorem dX0_compact_58 : decode cX0_compact 58 = .ok (.iload_n 1, 1) := dk_27 (dk_at dksX0_compact_2 12 rfl rfl)
theorem dX0_compact_59 : decode cX0_compact 59 = .ok (.aaload, 1) := dk_50 (dk_at dksX0_compact_2 13 rfl rfl)
theorem dX0_compact_60 : decode cX0_compact 60 = .ok (.invokevirtual 103, 3) := dk_182 0 103 (dk_at dksX0_compact_2 14 rfl rfl)
theorem dX0_compact_63 : decode cX0_compact 63 = .ok (.iconst 1, 1) := dk_4 (dk_at dksX0_compact_2 17 rfl rfl)
theorem dX0_compact_64 : decode cX0_compact 64 = .ok (.ireturn, 1) := dk_172 (dk_at dksX0_compact_2 18 rfl rfl)
abbrev cX0_write : ByteArray := prog_1_method_13_code
def yX0_write : MethodName := ⟨RX0, "write", "(III)I"⟩
def dkwX0_write_2 : List UInt8 := [182, 0, 109, 153, 0, 8, 16, 253, 167, 0, 14, 42, 180, 0, 34, 27, 3, 28, 29, 182, 0, 112, 172]
abbrev dktX0_write_2 : List UInt8 := dkwX0_write_2 ++ []
def dkwX0_write_1 : List UInt8 := [154, 0, 5, 2, 172, 42, 180, 0, 34, 27, 182, 0, 106, 154, 0, 6, 16, 254, 172, 42, 180, 0, 34, 27]
abbrev dktX0_write_1 : List UInt8 := dkwX0_write_1 ++ dktX0_write_2
def dkwX0_write_0 : List UInt8 := [27, 184, 0, 67, 153, 0, 22, 28, 16, 8, 184, 0, 12, 153, 0, 13, 29, 3, 16, 99, 184, 0, 63]
abbrev dktX0_write_0 : List UInt8 := dkwX0_write_0 ++ dktX0_write_1
theorem dksX0_write_0 : cX0_write.data.toList.drop 0 = dktX0_write_0 := by decide +kernel
theorem dksX0_write_1 : cX0_write.data.toList.drop 23 = dktX0_write_1 := dk_seg dksX0_write_0 23 rfl rfl
theorem dksX0_write_2 : cX0_write.data.toList.drop 47 = dktX0_write_2 := dk_seg dksX0_write_1 24 rfl rfl
theorem dX0_write_0 : decode cX0_write 0 = .ok (.iload_n 1, 1) := dk_27 (dk_at dksX0_write_0 0 rfl rfl)
theorem dX0_write_1 : decode cX0_write 1 = .ok (.invokestatic 67, 3) := dk_184 0 67 (dk_at dksX0_write_0 1 rfl rfl)
theorem dX0_write_4 : decode cX0_write 4 = .ok (.ifCond .eq 22, 3) := dk_153 0 22 (dk_at dksX0_write_0 4 rfl rfl)
theorem dX0_write_7 : decode cX0_write 7 = .ok (.iload_n 2, 1) := dk_28 (dk_at dksX0_write_0 7 rfl rfl)
theorem dX0_write_8 : decode cX0_write 8 = .ok (.bipush 8, 2) := dk_16 8 (dk_at dksX0_write_0 8 rfl rfl)
theorem dX0_write_10 : decode cX0_write 10 = .ok (.invokestatic 12, 3) := dk_184 0 12 (dk_at dksX0_write_0 10 rfl rfl)
theorem dX0_write_13 : decode cX0_write 13 = .ok (.ifCond .eq 13, 3) := dk_153 0 13 (dk_at dksX0_write_0 13 rfl rfl)
theorem dX0_write_16 : decode cX0_write 16 = .ok (.iload_n 3, 1) := dk_29 (dk_at dksX0_write_0 16 rfl rfl)
theorem dX0_write_17 : decode cX0_write 17 = .ok (.iconst 0, 1) := dk_3 (dk_at dksX0_write_0 17 rfl rfl)
theorem dX0_write_18 : decode cX0_write 18 = .ok (.bipush 99, 2) := dk_16 99 (dk_at dksX0_write_0 18 rfl rfl)
theorem dX0_write_20 : decode cX0_write 20 = .ok (.invokestatic 63, 3) := dk_184 0 63 (dk_at dksX0_write_0 20 rfl rfl)
theorem dX0_write_23 : decode cX0_write 23 = .ok (.ifCond .ne 5, 3) := dk_154 0 5 (dk_at dksX0_write_1 0 rfl rfl)
theorem dX0_write_26 : decode cX0_write 26 = .ok (.iconst (-1), 1) := dk_2 (dk_at dksX0_write_1 3 rfl rfl)
theorem dX0_write_27 : decode cX0_write 27 = .ok (.ireturn, 1) := dk_172 (dk_at dksX0_write_1 4 rfl rfl)
theorem dX0_write_28 : decode cX0_write 28 = .ok (.aload_n 0, 1) := dk_42 (dk_at dksX0_write_1 5 rfl rfl)
theorem dX0_write_29 : decode cX0_write 29 = .ok (.getfield 34, 3) := dk_180 0 34 (dk_at dksX0_write_1 6 rfl rfl)
theorem dX0_write_32 : decode cX0_write 32 = .ok (.iload_n 1, 1) := dk_27 (dk_at dksX0_write_1 9 rfl rfl)
theorem dX0_write_33 : decode cX0_write 33 = .ok (.invokevirtual 106, 3) := dk_182 0 106 (dk_at dksX0_write_1 10 rfl rfl)
theorem dX0_write_36 : decode cX0_write 36 = .ok (.ifCond .ne 6, 3) := dk_154 0 6 (dk_at dksX0_write_1 13 rfl rfl)
theorem dX0_write_39 : decode cX0_write 39 = .ok (.bipush (-2), 2) := dk_16 254 (dk_at dksX0_write_1 16 rfl rfl)
theorem dX0_write_41 : decode cX0_write 41 = .ok (.ireturn, 1) := dk_172 (dk_at dksX0_write_1 18 rfl rfl)
theorem dX0_write_42 : decode cX0_write 42 = .ok (.aload_n 0, 1) := dk_42 (dk_at dksX0_write_1 19 rfl rfl)
theorem dX0_write_43 : decode cX0_write 43 = .ok (.getfield 34, 3) := dk_180 0 34 (dk_at dksX0_write_1 20 rfl rfl)
theorem dX0_write_46 : decode cX0_write 46 = .ok (.iload_n 1, 1) := dk_27 (dk_at dksX0_write_1 23 rfl rfl)
theorem dX0_write_47 : decode cX0_write 47 = .ok (.invokevirtual 109, 3) := dk_182 0 109 (dk_at dksX0_write_2 0 rfl rfl)
theorem dX0_write_50 : decode cX0_write 50 = .ok (.ifCond .eq 8, 3) := dk_153 0 8 (dk_at dksX0_write_2 3 rfl rfl)
theorem dX0_write_53 : decode cX0_write 53 = .ok (.bipush (-3), 2) := dk_16 253 (dk_at dksX0_write_2 6 rfl rfl)
theorem dX0_write_55 : decode cX0_write 55 = .ok (.goto 14, 3) := dk_167 0 14 (dk_at dksX0_write_2 8 rfl rfl)
theorem dX0_write_58 : decode cX0_write 58 = .ok (.aload_n 0, 1) := dk_42 (dk_at dksX0_write_2 11 rfl rfl)
theorem dX0_write_59 : decode cX0_write 59 = .ok (.getfield 34, 3) := dk_180 0 34 (dk_at dksX0_write_2 12 rfl rfl)
theorem dX0_write_62 : decode cX0_write 62 = .ok (.iload_n 1, 1) := dk_27 (dk_at dksX0_write_2 15 rfl rfl)
theorem dX0_write_63 : decode cX0_write 63 = .ok (.iconst 0, 1) := dk_3 (dk_at dksX0_write_2 16 rfl rfl)
theorem dX0_write_64 : decode cX0_write 64 = .ok (.iload_n 2, 1) := dk_28 (dk_at dksX0_write_2 17 rfl rfl)
theorem dX0_write_65 : decode cX0_write 65 = .ok (.iload_n 3, 1) := dk_29 (dk_at dksX0_write_2 18 rfl rfl)
theorem dX0_write_66 : decode cX0_write 66 = .ok (.invokevirtual 112, 3) := dk_182 0 112 (dk_at dksX0_write_2 19 rfl rfl)
theorem dX0_write_69 : decode cX0_write 69 = .ok (.ireturn, 1) := dk_172 (dk_at dksX0_write_2 22 rfl rfl)
abbrev cX0_has : ByteArray := prog_1_method_3_code
def yX0_has : MethodName := ⟨RX0, "has", "(II)Z"⟩
def dkwX0_has_0 : List UInt8 := [26, 27, 122, 4, 126, 4, 160, 0, 7, 4, 167, 0, 4, 3, 172]
abbrev dktX0_has_0 : List UInt8 := dkwX0_has_0 ++ []
theorem dksX0_has_0 : cX0_has.data.toList.drop 0 = dktX0_has_0 := by decide +kernel
theorem dX0_has_0 : decode cX0_has 0 = .ok (.iload_n 0, 1) := dk_26 (dk_at dksX0_has_0 0 rfl rfl)
theorem dX0_has_1 : decode cX0_has 1 = .ok (.iload_n 1, 1) := dk_27 (dk_at dksX0_has_0 1 rfl rfl)
theorem dX0_has_2 : decode cX0_has 2 = .ok (.ishr, 1) := dk_122 (dk_at dksX0_has_0 2 rfl rfl)
theorem dX0_has_3 : decode cX0_has 3 = .ok (.iconst 1, 1) := dk_4 (dk_at dksX0_has_0 3 rfl rfl)
theorem dX0_has_4 : decode cX0_has 4 = .ok (.iand, 1) := dk_126 (dk_at dksX0_has_0 4 rfl rfl)
theorem dX0_has_5 : decode cX0_has 5 = .ok (.iconst 1, 1) := dk_4 (dk_at dksX0_has_0 5 rfl rfl)
theorem dX0_has_6 : decode cX0_has 6 = .ok (.if_icmp .ne 7, 3) := dk_160 0 7 (dk_at dksX0_has_0 6 rfl rfl)
theorem dX0_has_9 : decode cX0_has 9 = .ok (.iconst 1, 1) := dk_4 (dk_at dksX0_has_0 9 rfl rfl)
theorem dX0_has_10 : decode cX0_has 10 = .ok (.goto 4, 3) := dk_167 0 4 (dk_at dksX0_has_0 10 rfl rfl)
theorem dX0_has_13 : decode cX0_has 13 = .ok (.iconst 0, 1) := dk_3 (dk_at dksX0_has_0 13 rfl rfl)
theorem dX0_has_14 : decode cX0_has 14 = .ok (.ireturn, 1) := dk_172 (dk_at dksX0_has_0 14 rfl rfl)
abbrev cX0_held : ByteArray := prog_1_method_4_code
def yX0_held : MethodName := ⟨RX0, "held", "(II)I"⟩
def dkwX0_held_0 : List UInt8 := [3, 27, 26, 184, 0, 1, 184, 0, 7, 172]
abbrev dktX0_held_0 : List UInt8 := dkwX0_held_0 ++ []
theorem dksX0_held_0 : cX0_held.data.toList.drop 0 = dktX0_held_0 := by decide +kernel
theorem dX0_held_0 : decode cX0_held 0 = .ok (.iconst 0, 1) := dk_3 (dk_at dksX0_held_0 0 rfl rfl)
theorem dX0_held_1 : decode cX0_held 1 = .ok (.iload_n 1, 1) := dk_27 (dk_at dksX0_held_0 1 rfl rfl)
theorem dX0_held_2 : decode cX0_held 2 = .ok (.iload_n 0, 1) := dk_26 (dk_at dksX0_held_0 2 rfl rfl)
theorem dX0_held_3 : decode cX0_held 3 = .ok (.invokestatic 1, 3) := dk_184 0 1 (dk_at dksX0_held_0 3 rfl rfl)
theorem dX0_held_6 : decode cX0_held 6 = .ok (.invokestatic 7, 3) := dk_184 0 7 (dk_at dksX0_held_0 6 rfl rfl)
theorem dX0_held_9 : decode cX0_held 9 = .ok (.ireturn, 1) := dk_172 (dk_at dksX0_held_0 9 rfl rfl)
abbrev cX0_change : ByteArray := prog_1_method_14_code
def yX0_change : MethodName := ⟨RX0, "change", "(II)I"⟩
def dkwX0_change_4 : List UInt8 := [172]
abbrev dktX0_change_4 : List UInt8 := dkwX0_change_4 ++ []
def dkwX0_change_3 : List UInt8 := [182, 0, 124, 28, 160, 0, 6, 16, 252, 172, 42, 180, 0, 34, 27, 4, 45, 182, 0, 124, 28, 182, 0, 112]
abbrev dktX0_change_3 : List UInt8 := dkwX0_change_3 ++ dktX0_change_4
def dkwX0_change_2 : List UInt8 := [180, 0, 34, 180, 0, 71, 27, 50, 78, 45, 182, 0, 116, 154, 0, 18, 45, 182, 0, 120, 153, 0, 11, 45]
abbrev dktX0_change_2 : List UInt8 := dkwX0_change_2 ++ dktX0_change_3
def dkwX0_change_1 : List UInt8 := [182, 0, 106, 154, 0, 6, 16, 254, 172, 42, 180, 0, 34, 27, 182, 0, 109, 153, 0, 6, 16, 253, 172, 42]
abbrev dktX0_change_1 : List UInt8 := dkwX0_change_1 ++ dktX0_change_2
def dkwX0_change_0 : List UInt8 := [27, 184, 0, 67, 153, 0, 13, 28, 4, 16, 127, 184, 0, 63, 154, 0, 5, 2, 172, 42, 180, 0, 34, 27]
abbrev dktX0_change_0 : List UInt8 := dkwX0_change_0 ++ dktX0_change_1
theorem dksX0_change_0 : cX0_change.data.toList.drop 0 = dktX0_change_0 := by decide +kernel
theorem dksX0_change_1 : cX0_change.data.toList.drop 24 = dktX0_change_1 := dk_seg dksX0_change_0 24 rfl rfl
theorem dksX0_change_2 : cX0_change.data.toList.drop 48 = dktX0_change_2 := dk_seg dksX0_change_1 24 rfl rfl
theorem dksX0_change_3 : cX0_change.data.toList.drop 72 = dktX0_change_3 := dk_seg dksX0_change_2 24 rfl rfl
theorem dksX0_change_4 : cX0_change.data.toList.drop 96 = dktX0_change_4 := dk_seg dksX0_change_3 24 rfl rfl
theorem dX0_change_0 : decode cX0_change 0 = .ok (.iload_n 1, 1) := dk_27 (dk_at dksX0_change_0 0 rfl rfl)
theorem dX0_change_1 : decode cX0_change 1 = .ok (.invokestatic 67, 3) := dk_184 0 67 (dk_at dksX0_change_0 1 rfl rfl)
theorem dX0_change_4 : decode cX0_change 4 = .ok (.ifCond .eq 13, 3) := dk_153 0 13 (dk_at dksX0_change_0 4 rfl rfl)
theorem dX0_change_7 : decode cX0_change 7 = .ok (.iload_n 2, 1) := dk_28 (dk_at dksX0_change_0 7 rfl rfl)
theorem dX0_change_8 : decode cX0_change 8 = .ok (.iconst 1, 1) := dk_4 (dk_at dksX0_change_0 8 rfl rfl)
theorem dX0_change_9 : decode cX0_change 9 = .ok (.bipush 127, 2) := dk_16 127 (dk_at dksX0_change_0 9 rfl rfl)
theorem dX0_change_11 : decode cX0_change 11 = .ok (.invokestatic 63, 3) := dk_184 0 63 (dk_at dksX0_change_0 11 rfl rfl)
theorem dX0_change_14 : decode cX0_change 14 = .ok (.ifCond .ne 5, 3) := dk_154 0 5 (dk_at dksX0_change_0 14 rfl rfl)
theorem dX0_change_17 : decode cX0_change 17 = .ok (.iconst (-1), 1) := dk_2 (dk_at dksX0_change_0 17 rfl rfl)
theorem dX0_change_18 : decode cX0_change 18 = .ok (.ireturn, 1) := dk_172 (dk_at dksX0_change_0 18 rfl rfl)
theorem dX0_change_19 : decode cX0_change 19 = .ok (.aload_n 0, 1) := dk_42 (dk_at dksX0_change_0 19 rfl rfl)
theorem dX0_change_20 : decode cX0_change 20 = .ok (.getfield 34, 3) := dk_180 0 34 (dk_at dksX0_change_0 20 rfl rfl)
theorem dX0_change_23 : decode cX0_change 23 = .ok (.iload_n 1, 1) := dk_27 (dk_at dksX0_change_0 23 rfl rfl)
theorem dX0_change_24 : decode cX0_change 24 = .ok (.invokevirtual 106, 3) := dk_182 0 106 (dk_at dksX0_change_1 0 rfl rfl)
theorem dX0_change_27 : decode cX0_change 27 = .ok (.ifCond .ne 6, 3) := dk_154 0 6 (dk_at dksX0_change_1 3 rfl rfl)
theorem dX0_change_30 : decode cX0_change 30 = .ok (.bipush (-2), 2) := dk_16 254 (dk_at dksX0_change_1 6 rfl rfl)
theorem dX0_change_32 : decode cX0_change 32 = .ok (.ireturn, 1) := dk_172 (dk_at dksX0_change_1 8 rfl rfl)
theorem dX0_change_33 : decode cX0_change 33 = .ok (.aload_n 0, 1) := dk_42 (dk_at dksX0_change_1 9 rfl rfl)
theorem dX0_change_34 : decode cX0_change 34 = .ok (.getfield 34, 3) := dk_180 0 34 (dk_at dksX0_change_1 10 rfl rfl)
theorem dX0_change_37 : decode cX0_change 37 = .ok (.iload_n 1, 1) := dk_27 (dk_at dksX0_change_1 13 rfl rfl)
theorem dX0_change_38 : decode cX0_change 38 = .ok (.invokevirtual 109, 3) := dk_182 0 109 (dk_at dksX0_change_1 14 rfl rfl)
theorem dX0_change_41 : decode cX0_change 41 = .ok (.ifCond .eq 6, 3) := dk_153 0 6 (dk_at dksX0_change_1 17 rfl rfl)
theorem dX0_change_44 : decode cX0_change 44 = .ok (.bipush (-3), 2) := dk_16 253 (dk_at dksX0_change_1 20 rfl rfl)
theorem dX0_change_46 : decode cX0_change 46 = .ok (.ireturn, 1) := dk_172 (dk_at dksX0_change_1 22 rfl rfl)
theorem dX0_change_47 : decode cX0_change 47 = .ok (.aload_n 0, 1) := dk_42 (dk_at dksX0_change_1 23 rfl rfl)
theorem dX0_change_48 : decode cX0_change 48 = .ok (.getfield 34, 3) := dk_180 0 34 (dk_at dksX0_change_2 0 rfl rfl)
theorem dX0_change_51 : decode cX0_change 51 = .ok (.getfield 71, 3) := dk_180 0 71 (dk_at dksX0_change_2 3 rfl rfl)
theorem dX0_change_54 : decode cX0_change 54 = .ok (.iload_n 1, 1) := dk_27 (dk_at dksX0_change_2 6 rfl rfl)
theorem dX0_change_55 : decode cX0_change 55 = .ok (.aaload, 1) := dk_50 (dk_at dksX0_change_2 7 rfl rfl)
theorem dX0_change_56 : decode cX0_change 56 = .ok (.astore_n 3, 1) := dk_78 (dk_at dksX0_change_2 8 rfl rfl)
theorem dX0_change_57 : decode cX0_change 57 = .ok (.aload_n 3, 1) := dk_45 (dk_at dksX0_change_2 9 rfl rfl)
theorem dX0_change_58 : decode cX0_change 58 = .ok (.invokevirtual 116, 3) := dk_182 0 116 (dk_at dksX0_change_2 10 rfl rfl)
theorem dX0_change_61 : decode cX0_change 61 = .ok (.ifCond .ne 18, 3) := dk_154 0 18 (dk_at dksX0_change_2 13 rfl rfl)
theorem dX0_change_64 : decode cX0_change 64 = .ok (.aload_n 3, 1) := dk_45 (dk_at dksX0_change_2 16 rfl rfl)
theorem dX0_change_65 : decode cX0_change 65 = .ok (.invokevirtual 120, 3) := dk_182 0 120 (dk_at dksX0_change_2 17 rfl rfl)
theorem dX0_change_68 : decode cX0_change 68 = .ok (.ifCond .eq 11, 3) := dk_153 0 11 (dk_at dksX0_change_2 20 rfl rfl)
theorem dX0_change_71 : decode cX0_change 71 = .ok (.aload_n 3, 1) := dk_45 (dk_at dksX0_change_2 23 rfl rfl)
theorem dX0_change_72 : decode cX0_change 72 = .ok (.invokevirtual 124, 3) := dk_182 0 124 (dk_at dksX0_change_3 0 rfl rfl)
theorem dX0_change_75 : decode cX0_change 75 = .ok (.iload_n 2, 1) := dk_28 (dk_at dksX0_change_3 3 rfl rfl)
theorem dX0_change_76 : decode cX0_change 76 = .ok (.if_icmp .ne 6, 3) := dk_160 0 6 (dk_at dksX0_change_3 4 rfl rfl)
theorem dX0_change_79 : decode cX0_change 79 = .ok (.bipush (-4), 2) := dk_16 252 (dk_at dksX0_change_3 7 rfl rfl)
theorem dX0_change_81 : decode cX0_change 81 = .ok (.ireturn, 1) := dk_172 (dk_at dksX0_change_3 9 rfl rfl)
theorem dX0_change_82 : decode cX0_change 82 = .ok (.aload_n 0, 1) := dk_42 (dk_at dksX0_change_3 10 rfl rfl)
theorem dX0_change_83 : decode cX0_change 83 = .ok (.getfield 34, 3) := dk_180 0 34 (dk_at dksX0_change_3 11 rfl rfl)
theorem dX0_change_86 : decode cX0_change 86 = .ok (.iload_n 1, 1) := dk_27 (dk_at dksX0_change_3 14 rfl rfl)
theorem dX0_change_87 : decode cX0_change 87 = .ok (.iconst 1, 1) := dk_4 (dk_at dksX0_change_3 15 rfl rfl)
theorem dX0_change_88 : decode cX0_change 88 = .ok (.aload_n 3, 1) := dk_45 (dk_at dksX0_change_3 16 rfl rfl)
theorem dX0_change_89 : decode cX0_change 89 = .ok (.invokevirtual 124, 3) := dk_182 0 124 (dk_at dksX0_change_3 17 rfl rfl)
theorem dX0_change_92 : decode cX0_change 92 = .ok (.iload_n 2, 1) := dk_28 (dk_at dksX0_change_3 20 rfl rfl)
theorem dX0_change_93 : decode cX0_change 93 = .ok (.invokevirtual 112, 3) := dk_182 0 112 (dk_at dksX0_change_3 21 rfl rfl)
theorem dX0_change_96 : decode cX0_change 96 = .ok (.ireturn, 1) := dk_172 (dk_at dksX0_change_4 0 rfl rfl)
abbrev cX0_ask : ByteArray := prog_1_method_15_code
def yX0_ask : MethodName := ⟨RX0, "ask", "(II)I"⟩
def dkwX0_ask_7 : List UInt8 := [181, 0, 127, 42, 180, 0, 34, 27, 182, 0, 150, 42, 180, 0, 34, 27, 182, 0, 153, 21, 4, 172]
abbrev dktX0_ask_7 : List UInt8 := dkwX0_ask_7 ++ []
def dkwX0_ask_6 : List UInt8 := [79, 25, 5, 7, 3, 79, 25, 5, 8, 16, 254, 79, 42, 180, 0, 34, 89, 180, 0, 127, 4, 96]
abbrev dktX0_ask_6 : List UInt8 := dkwX0_ask_6 ++ dktX0_ask_7
def dkwX0_ask_5 : List UInt8 := [79, 25, 5, 4, 28, 79, 25, 5, 5, 45, 180, 0, 137, 79, 25, 5, 6, 42, 180, 0, 34, 180, 0, 147]
abbrev dktX0_ask_5 : List UInt8 := dkwX0_ask_5 ++ dktX0_ask_6
def dkwX0_ask_4 : List UInt8 := [180, 0, 34, 180, 0, 127, 54, 4, 42, 180, 0, 34, 180, 0, 143, 21, 4, 50, 58, 5, 25, 5, 3, 27]
abbrev dktX0_ask_4 : List UInt8 := dkwX0_ask_4 ++ dktX0_ask_5
def dkwX0_ask_3 : List UInt8 := [159, 0, 6, 16, 252, 172, 45, 89, 180, 0, 137, 4, 96, 181, 0, 137, 45, 3, 181, 0, 140, 42]
abbrev dktX0_ask_3 : List UInt8 := dkwX0_ask_3 ++ dktX0_ask_4
def dkwX0_ask_2 : List UInt8 := [42, 180, 0, 34, 180, 0, 71, 27, 50, 78, 45, 45, 180, 0, 97, 182, 0, 130, 45, 180, 0, 134]
abbrev dktX0_ask_2 : List UInt8 := dkwX0_ask_2 ++ dktX0_ask_3
def dkwX0_ask_1 : List UInt8 := [182, 0, 106, 154, 0, 6, 16, 254, 172, 42, 180, 0, 34, 180, 0, 127, 16, 16, 160, 0, 6, 16, 253, 172]
abbrev dktX0_ask_1 : List UInt8 := dkwX0_ask_1 ++ dktX0_ask_2
def dkwX0_ask_0 : List UInt8 := [27, 184, 0, 67, 153, 0, 12, 28, 16, 8, 184, 0, 12, 154, 0, 5, 2, 172, 42, 180, 0, 34, 27]
abbrev dktX0_ask_0 : List UInt8 := dkwX0_ask_0 ++ dktX0_ask_1
theorem dksX0_ask_0 : cX0_ask.data.toList.drop 0 = dktX0_ask_0 := by decide +kernel
theorem dksX0_ask_1 : cX0_ask.data.toList.drop 23 = dktX0_ask_1 := dk_seg dksX0_ask_0 23 rfl rfl
theorem dksX0_ask_2 : cX0_ask.data.toList.drop 47 = dktX0_ask_2 := dk_seg dksX0_ask_1 24 rfl rfl
theorem dksX0_ask_3 : cX0_ask.data.toList.drop 69 = dktX0_ask_3 := dk_seg dksX0_ask_2 22 rfl rfl
theorem dksX0_ask_4 : cX0_ask.data.toList.drop 91 = dktX0_ask_4 := dk_seg dksX0_ask_3 22 rfl rfl
theorem dksX0_ask_5 : cX0_ask.data.toList.drop 115 = dktX0_ask_5 := dk_seg dksX0_ask_4 24 rfl rfl
theorem dksX0_ask_6 : cX0_ask.data.toList.drop 139 = dktX0_ask_6 := dk_seg dksX0_ask_5 24 rfl rfl
theorem dksX0_ask_7 : cX0_ask.data.toList.drop 161 = dktX0_ask_7 := dk_seg dksX0_ask_6 22 rfl rfl
theorem dX0_ask_0 : decode cX0_ask 0 = .ok (.iload_n 1, 1) := dk_27 (dk_at dksX0_ask_0 0 rfl rfl)
theorem dX0_ask_1 : decode cX0_ask 1 = .ok (.invokestatic 67, 3) := dk_184 0 67 (dk_at dksX0_ask_0 1 rfl rfl)
theorem dX0_ask_4 : decode cX0_ask 4 = .ok (.ifCond .eq 12, 3) := dk_153 0 12 (dk_at dksX0_ask_0 4 rfl rfl)
theorem dX0_ask_7 : decode cX0_ask 7 = .ok (.iload_n 2, 1) := dk_28 (dk_at dksX0_ask_0 7 rfl rfl)
theorem dX0_ask_8 : decode cX0_ask 8 = .ok (.bipush 8, 2) := dk_16 8 (dk_at dksX0_ask_0 8 rfl rfl)
theorem dX0_ask_10 : decode cX0_ask 10 = .ok (.invokestatic 12, 3) := dk_184 0 12 (dk_at dksX0_ask_0 10 rfl rfl)
theorem dX0_ask_13 : decode cX0_ask 13 = .ok (.ifCond .ne 5, 3) := dk_154 0 5 (dk_at dksX0_ask_0 13 rfl rfl)
theorem dX0_ask_16 : decode cX0_ask 16 = .ok (.iconst (-1), 1) := dk_2 (dk_at dksX0_ask_0 16 rfl rfl)
theorem dX0_ask_17 : decode cX0_ask 17 = .ok (.ireturn, 1) := dk_172 (dk_at dksX0_ask_0 17 rfl rfl)
theorem dX0_ask_18 : decode cX0_ask 18 = .ok (.aload_n 0, 1) := dk_42 (dk_at dksX0_ask_0 18 rfl rfl)
theorem dX0_ask_19 : decode cX0_ask 19 = .ok (.getfield 34, 3) := dk_180 0 34 (dk_at dksX0_ask_0 19 rfl rfl)
theorem dX0_ask_22 : decode cX0_ask 22 = .ok (.iload_n 1, 1) := dk_27 (dk_at dksX0_ask_0 22 rfl rfl)
theorem dX0_ask_23 : decode cX0_ask 23 = .ok (.invokevirtual 106, 3) := dk_182 0 106 (dk_at dksX0_ask_1 0 rfl rfl)
theorem dX0_ask_26 : decode cX0_ask 26 = .ok (.ifCond .ne 6, 3) := dk_154 0 6 (dk_at dksX0_ask_1 3 rfl rfl)
theorem dX0_ask_29 : decode cX0_ask 29 = .ok (.bipush (-2), 2) := dk_16 254 (dk_at dksX0_ask_1 6 rfl rfl)
theorem dX0_ask_31 : decode cX0_ask 31 = .ok (.ireturn, 1) := dk_172 (dk_at dksX0_ask_1 8 rfl rfl)
theorem dX0_ask_32 : decode cX0_ask 32 = .ok (.aload_n 0, 1) := dk_42 (dk_at dksX0_ask_1 9 rfl rfl)
theorem dX0_ask_33 : decode cX0_ask 33 = .ok (.getfield 34, 3) := dk_180 0 34 (dk_at dksX0_ask_1 10 rfl rfl)
theorem dX0_ask_36 : decode cX0_ask 36 = .ok (.getfield 127, 3) := dk_180 0 127 (dk_at dksX0_ask_1 13 rfl rfl)
theorem dX0_ask_39 : decode cX0_ask 39 = .ok (.bipush 16, 2) := dk_16 16 (dk_at dksX0_ask_1 16 rfl rfl)
theorem dX0_ask_41 : decode cX0_ask 41 = .ok (.if_icmp .ne 6, 3) := dk_160 0 6 (dk_at dksX0_ask_1 18 rfl rfl)
theorem dX0_ask_44 : decode cX0_ask 44 = .ok (.bipush (-3), 2) := dk_16 253 (dk_at dksX0_ask_1 21 rfl rfl)
theorem dX0_ask_46 : decode cX0_ask 46 = .ok (.ireturn, 1) := dk_172 (dk_at dksX0_ask_1 23 rfl rfl)
theorem dX0_ask_47 : decode cX0_ask 47 = .ok (.aload_n 0, 1) := dk_42 (dk_at dksX0_ask_2 0 rfl rfl)
theorem dX0_ask_48 : decode cX0_ask 48 = .ok (.getfield 34, 3) := dk_180 0 34 (dk_at dksX0_ask_2 1 rfl rfl)
theorem dX0_ask_51 : decode cX0_ask 51 = .ok (.getfield 71, 3) := dk_180 0 71 (dk_at dksX0_ask_2 4 rfl rfl)
theorem dX0_ask_54 : decode cX0_ask 54 = .ok (.iload_n 1, 1) := dk_27 (dk_at dksX0_ask_2 7 rfl rfl)
theorem dX0_ask_55 : decode cX0_ask 55 = .ok (.aaload, 1) := dk_50 (dk_at dksX0_ask_2 8 rfl rfl)
theorem dX0_ask_56 : decode cX0_ask 56 = .ok (.astore_n 3, 1) := dk_78 (dk_at dksX0_ask_2 9 rfl rfl)
theorem dX0_ask_57 : decode cX0_ask 57 = .ok (.aload_n 3, 1) := dk_45 (dk_at dksX0_ask_2 10 rfl rfl)
theorem dX0_ask_58 : decode cX0_ask 58 = .ok (.aload_n 3, 1) := dk_45 (dk_at dksX0_ask_2 11 rfl rfl)
theorem dX0_ask_59 : decode cX0_ask 59 = .ok (.getfield 97, 3) := dk_180 0 97 (dk_at dksX0_ask_2 12 rfl rfl)
theorem dX0_ask_62 : decode cX0_ask 62 = .ok (.invokevirtual 130, 3) := dk_182 0 130 (dk_at dksX0_ask_2 15 rfl rfl)
theorem dX0_ask_65 : decode cX0_ask 65 = .ok (.aload_n 3, 1) := dk_45 (dk_at dksX0_ask_2 18 rfl rfl)
theorem dX0_ask_66 : decode cX0_ask 66 = .ok (.getfield 134, 3) := dk_180 0 134 (dk_at dksX0_ask_2 19 rfl rfl)
theorem dX0_ask_69 : decode cX0_ask 69 = .ok (.if_icmp .eq 6, 3) := dk_159 0 6 (dk_at dksX0_ask_3 0 rfl rfl)
theorem dX0_ask_72 : decode cX0_ask 72 = .ok (.bipush (-4), 2) := dk_16 252 (dk_at dksX0_ask_3 3 rfl rfl)
theorem dX0_ask_74 : decode cX0_ask 74 = .ok (.ireturn, 1) := dk_172 (dk_at dksX0_ask_3 5 rfl rfl)
theorem dX0_ask_75 : decode cX0_ask 75 = .ok (.aload_n 3, 1) := dk_45 (dk_at dksX0_ask_3 6 rfl rfl)
theorem dX0_ask_76 : decode cX0_ask 76 = .ok (.dup, 1) := dk_89 (dk_at dksX0_ask_3 7 rfl rfl)
theorem dX0_ask_77 : decode cX0_ask 77 = .ok (.getfield 137, 3) := dk_180 0 137 (dk_at dksX0_ask_3 8 rfl rfl)
theorem dX0_ask_80 : decode cX0_ask 80 = .ok (.iconst 1, 1) := dk_4 (dk_at dksX0_ask_3 11 rfl rfl)
theorem dX0_ask_81 : decode cX0_ask 81 = .ok (.iadd, 1) := dk_96 (dk_at dksX0_ask_3 12 rfl rfl)
theorem dX0_ask_82 : decode cX0_ask 82 = .ok (.putfield 137, 3) := dk_181 0 137 (dk_at dksX0_ask_3 13 rfl rfl)
theorem dX0_ask_85 : decode cX0_ask 85 = .ok (.aload_n 3, 1) := dk_45 (dk_at dksX0_ask_3 16 rfl rfl)
theorem dX0_ask_86 : decode cX0_ask 86 = .ok (.iconst 0, 1) := dk_3 (dk_at dksX0_ask_3 17 rfl rfl)
theorem dX0_ask_87 : decode cX0_ask 87 = .ok (.putfield 140, 3) := dk_181 0 140 (dk_at dksX0_ask_3 18 rfl rfl)
theorem dX0_ask_90 : decode cX0_ask 90 = .ok (.aload_n 0, 1) := dk_42 (dk_at dksX0_ask_3 21 rfl rfl)
theorem dX0_ask_91 : decode cX0_ask 91 = .ok (.getfield 34, 3) := dk_180 0 34 (dk_at dksX0_ask_4 0 rfl rfl)
theorem dX0_ask_94 : decode cX0_ask 94 = .ok (.getfield 127, 3) := dk_180 0 127 (dk_at dksX0_ask_4 3 rfl rfl)
theorem dX0_ask_97 : decode cX0_ask 97 = .ok (.istore 4, 2) := dk_54 4 (dk_at dksX0_ask_4 6 rfl rfl)
theorem dX0_ask_99 : decode cX0_ask 99 = .ok (.aload_n 0, 1) := dk_42 (dk_at dksX0_ask_4 8 rfl rfl)
theorem dX0_ask_100 : decode cX0_ask 100 = .ok (.getfield 34, 3) := dk_180 0 34 (dk_at dksX0_ask_4 9 rfl rfl)
theorem dX0_ask_103 : decode cX0_ask 103 = .ok (.getfield 143, 3) := dk_180 0 143 (dk_at dksX0_ask_4 12 rfl rfl)
theorem dX0_ask_106 : decode cX0_ask 106 = .ok (.iload 4, 2) := dk_21 4 (dk_at dksX0_ask_4 15 rfl rfl)
theorem dX0_ask_108 : decode cX0_ask 108 = .ok (.aaload, 1) := dk_50 (dk_at dksX0_ask_4 17 rfl rfl)
theorem dX0_ask_109 : decode cX0_ask 109 = .ok (.astore 5, 2) := dk_58 5 (dk_at dksX0_ask_4 18 rfl rfl)
theorem dX0_ask_111 : decode cX0_ask 111 = .ok (.aload 5, 2) := dk_25 5 (dk_at dksX0_ask_4 20 rfl rfl)
theorem dX0_ask_113 : decode cX0_ask 113 = .ok (.iconst 0, 1) := dk_3 (dk_at dksX0_ask_4 22 rfl rfl)
theorem dX0_ask_114 : decode cX0_ask 114 = .ok (.iload_n 1, 1) := dk_27 (dk_at dksX0_ask_4 23 rfl rfl)
theorem dX0_ask_115 : decode cX0_ask 115 = .ok (.iastore, 1) := dk_79 (dk_at dksX0_ask_5 0 rfl rfl)
theorem dX0_ask_116 : decode cX0_ask 116 = .ok (.aload 5, 2) := dk_25 5 (dk_at dksX0_ask_5 1 rfl rfl)
theorem dX0_ask_118 : decode cX0_ask 118 = .ok (.iconst 1, 1) := dk_4 (dk_at dksX0_ask_5 3 rfl rfl)
theorem dX0_ask_119 : decode cX0_ask 119 = .ok (.iload_n 2, 1) := dk_28 (dk_at dksX0_ask_5 4 rfl rfl)
theorem dX0_ask_120 : decode cX0_ask 120 = .ok (.iastore, 1) := dk_79 (dk_at dksX0_ask_5 5 rfl rfl)
theorem dX0_ask_121 : decode cX0_ask 121 = .ok (.aload 5, 2) := dk_25 5 (dk_at dksX0_ask_5 6 rfl rfl)
theorem dX0_ask_123 : decode cX0_ask 123 = .ok (.iconst 2, 1) := dk_5 (dk_at dksX0_ask_5 8 rfl rfl)
theorem dX0_ask_124 : decode cX0_ask 124 = .ok (.aload_n 3, 1) := dk_45 (dk_at dksX0_ask_5 9 rfl rfl)
theorem dX0_ask_125 : decode cX0_ask 125 = .ok (.getfield 137, 3) := dk_180 0 137 (dk_at dksX0_ask_5 10 rfl rfl)
theorem dX0_ask_128 : decode cX0_ask 128 = .ok (.iastore, 1) := dk_79 (dk_at dksX0_ask_5 13 rfl rfl)
theorem dX0_ask_129 : decode cX0_ask 129 = .ok (.aload 5, 2) := dk_25 5 (dk_at dksX0_ask_5 14 rfl rfl)
theorem dX0_ask_131 : decode cX0_ask 131 = .ok (.iconst 3, 1) := dk_6 (dk_at dksX0_ask_5 16 rfl rfl)
theorem dX0_ask_132 : decode cX0_ask 132 = .ok (.aload_n 0, 1) := dk_42 (dk_at dksX0_ask_5 17 rfl rfl)
theorem dX0_ask_133 : decode cX0_ask 133 = .ok (.getfield 34, 3) := dk_180 0 34 (dk_at dksX0_ask_5 18 rfl rfl)
theorem dX0_ask_136 : decode cX0_ask 136 = .ok (.getfield 147, 3) := dk_180 0 147 (dk_at dksX0_ask_5 21 rfl rfl)
theorem dX0_ask_139 : decode cX0_ask 139 = .ok (.iastore, 1) := dk_79 (dk_at dksX0_ask_6 0 rfl rfl)
theorem dX0_ask_140 : decode cX0_ask 140 = .ok (.aload 5, 2) := dk_25 5 (dk_at dksX0_ask_6 1 rfl rfl)
theorem dX0_ask_142 : decode cX0_ask 142 = .ok (.iconst 4, 1) := dk_7 (dk_at dksX0_ask_6 3 rfl rfl)
theorem dX0_ask_143 : decode cX0_ask 143 = .ok (.iconst 0, 1) := dk_3 (dk_at dksX0_ask_6 4 rfl rfl)
theorem dX0_ask_144 : decode cX0_ask 144 = .ok (.iastore, 1) := dk_79 (dk_at dksX0_ask_6 5 rfl rfl)
theorem dX0_ask_145 : decode cX0_ask 145 = .ok (.aload 5, 2) := dk_25 5 (dk_at dksX0_ask_6 6 rfl rfl)
theorem dX0_ask_147 : decode cX0_ask 147 = .ok (.iconst 5, 1) := dk_8 (dk_at dksX0_ask_6 8 rfl rfl)
theorem dX0_ask_148 : decode cX0_ask 148 = .ok (.bipush (-2), 2) := dk_16 254 (dk_at dksX0_ask_6 9 rfl rfl)
theorem dX0_ask_150 : decode cX0_ask 150 = .ok (.iastore, 1) := dk_79 (dk_at dksX0_ask_6 11 rfl rfl)
theorem dX0_ask_151 : decode cX0_ask 151 = .ok (.aload_n 0, 1) := dk_42 (dk_at dksX0_ask_6 12 rfl rfl)
theorem dX0_ask_152 : decode cX0_ask 152 = .ok (.getfield 34, 3) := dk_180 0 34 (dk_at dksX0_ask_6 13 rfl rfl)
theorem dX0_ask_155 : decode cX0_ask 155 = .ok (.dup, 1) := dk_89 (dk_at dksX0_ask_6 16 rfl rfl)
theorem dX0_ask_156 : decode cX0_ask 156 = .ok (.getfield 127, 3) := dk_180 0 127 (dk_at dksX0_ask_6 17 rfl rfl)
theorem dX0_ask_159 : decode cX0_ask 159 = .ok (.iconst 1, 1) := dk_4 (dk_at dksX0_ask_6 20 rfl rfl)
theorem dX0_ask_160 : decode cX0_ask 160 = .ok (.iadd, 1) := dk_96 (dk_at dksX0_ask_6 21 rfl rfl)
theorem dX0_ask_161 : decode cX0_ask 161 = .ok (.putfield 127, 3) := dk_181 0 127 (dk_at dksX0_ask_7 0 rfl rfl)
theorem dX0_ask_164 : decode cX0_ask 164 = .ok (.aload_n 0, 1) := dk_42 (dk_at dksX0_ask_7 3 rfl rfl)
theorem dX0_ask_165 : decode cX0_ask 165 = .ok (.getfield 34, 3) := dk_180 0 34 (dk_at dksX0_ask_7 4 rfl rfl)
theorem dX0_ask_168 : decode cX0_ask 168 = .ok (.iload_n 1, 1) := dk_27 (dk_at dksX0_ask_7 7 rfl rfl)
theorem dX0_ask_169 : decode cX0_ask 169 = .ok (.invokevirtual 150, 3) := dk_182 0 150 (dk_at dksX0_ask_7 8 rfl rfl)
theorem dX0_ask_172 : decode cX0_ask 172 = .ok (.aload_n 0, 1) := dk_42 (dk_at dksX0_ask_7 11 rfl rfl)
theorem dX0_ask_173 : decode cX0_ask 173 = .ok (.getfield 34, 3) := dk_180 0 34 (dk_at dksX0_ask_7 12 rfl rfl)
theorem dX0_ask_176 : decode cX0_ask 176 = .ok (.iload_n 1, 1) := dk_27 (dk_at dksX0_ask_7 15 rfl rfl)
theorem dX0_ask_177 : decode cX0_ask 177 = .ok (.invokevirtual 153, 3) := dk_182 0 153 (dk_at dksX0_ask_7 16 rfl rfl)
theorem dX0_ask_180 : decode cX0_ask 180 = .ok (.iload 4, 2) := dk_21 4 (dk_at dksX0_ask_7 19 rfl rfl)
theorem dX0_ask_182 : decode cX0_ask 182 = .ok (.ireturn, 1) := dk_172 (dk_at dksX0_ask_7 21 rfl rfl)
abbrev cX0_feed : ByteArray := prog_1_method_17_code
def yX0_feed : MethodName := ⟨RX0, "feed", "(IIIII)I"⟩
def dkwX0_feed_2 : List UInt8 := [172]
abbrev dktX0_feed_2 : List UInt8 := dkwX0_feed_2 ++ []
def dkwX0_feed_1 : List UInt8 := [182, 0, 159, 42, 29, 182, 0, 159, 42, 21, 4, 182, 0, 159, 42, 21, 5, 182, 0, 159, 42, 180, 0, 156]
abbrev dktX0_feed_1 : List UInt8 := dkwX0_feed_1 ++ dktX0_feed_2
def dkwX0_feed_0 : List UInt8 := [42, 180, 0, 156, 16, 20, 96, 17, 1, 4, 164, 0, 5, 2, 172, 42, 27, 182, 0, 159, 42, 28]
abbrev dktX0_feed_0 : List UInt8 := dkwX0_feed_0 ++ dktX0_feed_1
theorem dksX0_feed_0 : cX0_feed.data.toList.drop 0 = dktX0_feed_0 := by decide +kernel
theorem dksX0_feed_1 : cX0_feed.data.toList.drop 22 = dktX0_feed_1 := dk_seg dksX0_feed_0 22 rfl rfl
theorem dksX0_feed_2 : cX0_feed.data.toList.drop 46 = dktX0_feed_2 := dk_seg dksX0_feed_1 24 rfl rfl
theorem dX0_feed_0 : decode cX0_feed 0 = .ok (.aload_n 0, 1) := dk_42 (dk_at dksX0_feed_0 0 rfl rfl)
theorem dX0_feed_1 : decode cX0_feed 1 = .ok (.getfield 156, 3) := dk_180 0 156 (dk_at dksX0_feed_0 1 rfl rfl)
theorem dX0_feed_4 : decode cX0_feed 4 = .ok (.bipush 20, 2) := dk_16 20 (dk_at dksX0_feed_0 4 rfl rfl)
theorem dX0_feed_6 : decode cX0_feed 6 = .ok (.iadd, 1) := dk_96 (dk_at dksX0_feed_0 6 rfl rfl)
theorem dX0_feed_7 : decode cX0_feed 7 = .ok (.sipush 260, 3) := dk_17 1 4 (dk_at dksX0_feed_0 7 rfl rfl)
theorem dX0_feed_10 : decode cX0_feed 10 = .ok (.if_icmp .le 5, 3) := dk_164 0 5 (dk_at dksX0_feed_0 10 rfl rfl)
theorem dX0_feed_13 : decode cX0_feed 13 = .ok (.iconst (-1), 1) := dk_2 (dk_at dksX0_feed_0 13 rfl rfl)
theorem dX0_feed_14 : decode cX0_feed 14 = .ok (.ireturn, 1) := dk_172 (dk_at dksX0_feed_0 14 rfl rfl)
theorem dX0_feed_15 : decode cX0_feed 15 = .ok (.aload_n 0, 1) := dk_42 (dk_at dksX0_feed_0 15 rfl rfl)
theorem dX0_feed_16 : decode cX0_feed 16 = .ok (.iload_n 1, 1) := dk_27 (dk_at dksX0_feed_0 16 rfl rfl)
theorem dX0_feed_17 : decode cX0_feed 17 = .ok (.invokevirtual 159, 3) := dk_182 0 159 (dk_at dksX0_feed_0 17 rfl rfl)
theorem dX0_feed_20 : decode cX0_feed 20 = .ok (.aload_n 0, 1) := dk_42 (dk_at dksX0_feed_0 20 rfl rfl)
theorem dX0_feed_21 : decode cX0_feed 21 = .ok (.iload_n 2, 1) := dk_28 (dk_at dksX0_feed_0 21 rfl rfl)
theorem dX0_feed_22 : decode cX0_feed 22 = .ok (.invokevirtual 159, 3) := dk_182 0 159 (dk_at dksX0_feed_1 0 rfl rfl)
theorem dX0_feed_25 : decode cX0_feed 25 = .ok (.aload_n 0, 1) := dk_42 (dk_at dksX0_feed_1 3 rfl rfl)
theorem dX0_feed_26 : decode cX0_feed 26 = .ok (.iload_n 3, 1) := dk_29 (dk_at dksX0_feed_1 4 rfl rfl)
theorem dX0_feed_27 : decode cX0_feed 27 = .ok (.invokevirtual 159, 3) := dk_182 0 159 (dk_at dksX0_feed_1 5 rfl rfl)
theorem dX0_feed_30 : decode cX0_feed 30 = .ok (.aload_n 0, 1) := dk_42 (dk_at dksX0_feed_1 8 rfl rfl)
theorem dX0_feed_31 : decode cX0_feed 31 = .ok (.iload 4, 2) := dk_21 4 (dk_at dksX0_feed_1 9 rfl rfl)
theorem dX0_feed_33 : decode cX0_feed 33 = .ok (.invokevirtual 159, 3) := dk_182 0 159 (dk_at dksX0_feed_1 11 rfl rfl)
theorem dX0_feed_36 : decode cX0_feed 36 = .ok (.aload_n 0, 1) := dk_42 (dk_at dksX0_feed_1 14 rfl rfl)
theorem dX0_feed_37 : decode cX0_feed 37 = .ok (.iload 5, 2) := dk_21 5 (dk_at dksX0_feed_1 15 rfl rfl)
theorem dX0_feed_39 : decode cX0_feed 39 = .ok (.invokevirtual 159, 3) := dk_182 0 159 (dk_at dksX0_feed_1 17 rfl rfl)
theorem dX0_feed_42 : decode cX0_feed 42 = .ok (.aload_n 0, 1) := dk_42 (dk_at dksX0_feed_1 20 rfl rfl)
theorem dX0_feed_43 : decode cX0_feed 43 = .ok (.getfield 156, 3) := dk_180 0 156 (dk_at dksX0_feed_1 21 rfl rfl)
theorem dX0_feed_46 : decode cX0_feed 46 = .ok (.ireturn, 1) := dk_172 (dk_at dksX0_feed_2 0 rfl rfl)
abbrev cX0_push : ByteArray := prog_1_method_16_code
def yX0_push : MethodName := ⟨RX0, "push", "(I)V"⟩
def dkwX0_push_1 : List UInt8 := [180, 0, 156, 4, 96, 181, 0, 156, 132, 2, 248, 167, 255, 226, 177]
abbrev dktX0_push_1 : List UInt8 := dkwX0_push_1 ++ []
def dkwX0_push_0 : List UInt8 := [16, 24, 61, 28, 155, 0, 32, 42, 180, 0, 44, 42, 180, 0, 156, 27, 28, 122, 145, 84, 42, 89]
abbrev dktX0_push_0 : List UInt8 := dkwX0_push_0 ++ dktX0_push_1
theorem dksX0_push_0 : cX0_push.data.toList.drop 0 = dktX0_push_0 := by decide +kernel
theorem dksX0_push_1 : cX0_push.data.toList.drop 22 = dktX0_push_1 := dk_seg dksX0_push_0 22 rfl rfl
theorem dX0_push_0 : decode cX0_push 0 = .ok (.bipush 24, 2) := dk_16 24 (dk_at dksX0_push_0 0 rfl rfl)
theorem dX0_push_2 : decode cX0_push 2 = .ok (.istore_n 2, 1) := dk_61 (dk_at dksX0_push_0 2 rfl rfl)
theorem dX0_push_3 : decode cX0_push 3 = .ok (.iload_n 2, 1) := dk_28 (dk_at dksX0_push_0 3 rfl rfl)
theorem dX0_push_4 : decode cX0_push 4 = .ok (.ifCond .lt 32, 3) := dk_155 0 32 (dk_at dksX0_push_0 4 rfl rfl)
theorem dX0_push_7 : decode cX0_push 7 = .ok (.aload_n 0, 1) := dk_42 (dk_at dksX0_push_0 7 rfl rfl)
theorem dX0_push_8 : decode cX0_push 8 = .ok (.getfield 44, 3) := dk_180 0 44 (dk_at dksX0_push_0 8 rfl rfl)
theorem dX0_push_11 : decode cX0_push 11 = .ok (.aload_n 0, 1) := dk_42 (dk_at dksX0_push_0 11 rfl rfl)
theorem dX0_push_12 : decode cX0_push 12 = .ok (.getfield 156, 3) := dk_180 0 156 (dk_at dksX0_push_0 12 rfl rfl)
theorem dX0_push_15 : decode cX0_push 15 = .ok (.iload_n 1, 1) := dk_27 (dk_at dksX0_push_0 15 rfl rfl)
theorem dX0_push_16 : decode cX0_push 16 = .ok (.iload_n 2, 1) := dk_28 (dk_at dksX0_push_0 16 rfl rfl)
theorem dX0_push_17 : decode cX0_push 17 = .ok (.ishr, 1) := dk_122 (dk_at dksX0_push_0 17 rfl rfl)
theorem dX0_push_18 : decode cX0_push 18 = .ok (.i2b, 1) := dk_145 (dk_at dksX0_push_0 18 rfl rfl)
theorem dX0_push_19 : decode cX0_push 19 = .ok (.bastore, 1) := dk_84 (dk_at dksX0_push_0 19 rfl rfl)
theorem dX0_push_20 : decode cX0_push 20 = .ok (.aload_n 0, 1) := dk_42 (dk_at dksX0_push_0 20 rfl rfl)
theorem dX0_push_21 : decode cX0_push 21 = .ok (.dup, 1) := dk_89 (dk_at dksX0_push_0 21 rfl rfl)
theorem dX0_push_22 : decode cX0_push 22 = .ok (.getfield 156, 3) := dk_180 0 156 (dk_at dksX0_push_1 0 rfl rfl)
theorem dX0_push_25 : decode cX0_push 25 = .ok (.iconst 1, 1) := dk_4 (dk_at dksX0_push_1 3 rfl rfl)
theorem dX0_push_26 : decode cX0_push 26 = .ok (.iadd, 1) := dk_96 (dk_at dksX0_push_1 4 rfl rfl)
theorem dX0_push_27 : decode cX0_push 27 = .ok (.putfield 156, 3) := dk_181 0 156 (dk_at dksX0_push_1 5 rfl rfl)
theorem dX0_push_30 : decode cX0_push 30 = .ok (.iinc 2 (-8), 3) := dk_132 2 248 (dk_at dksX0_push_1 8 rfl rfl)
theorem dX0_push_33 : decode cX0_push 33 = .ok (.goto (-30), 3) := dk_167 255 226 (dk_at dksX0_push_1 11 rfl rfl)
theorem dX0_push_36 : decode cX0_push 36 = .ok (.return_, 1) := dk_177 (dk_at dksX0_push_1 14 rfl rfl)
abbrev cX0_law : ByteArray := prog_1_method_18_code
def yX0_law : MethodName := ⟨RX0, "law", "(I)I"⟩
def dkwX0_law_2 : List UInt8 := [180, 0, 170, 181, 0, 51, 29, 172]
abbrev dktX0_law_2 : List UInt8 := dkwX0_law_2 ++ []
def dkwX0_law_1 : List UInt8 := [181, 0, 156, 187, 0, 162, 89, 42, 27, 183, 0, 164, 77, 44, 182, 0, 167, 62, 29, 155, 0, 11, 42, 44]
abbrev dktX0_law_1 : List UInt8 := dkwX0_law_1 ++ dktX0_law_2
def dkwX0_law_0 : List UInt8 := [27, 4, 17, 0, 240, 184, 0, 63, 153, 0, 11, 27, 42, 180, 0, 156, 164, 0, 5, 2, 172, 42, 3]
abbrev dktX0_law_0 : List UInt8 := dkwX0_law_0 ++ dktX0_law_1
theorem dksX0_law_0 : cX0_law.data.toList.drop 0 = dktX0_law_0 := by decide +kernel
theorem dksX0_law_1 : cX0_law.data.toList.drop 23 = dktX0_law_1 := dk_seg dksX0_law_0 23 rfl rfl
theorem dksX0_law_2 : cX0_law.data.toList.drop 47 = dktX0_law_2 := dk_seg dksX0_law_1 24 rfl rfl
theorem dX0_law_0 : decode cX0_law 0 = .ok (.iload_n 1, 1) := dk_27 (dk_at dksX0_law_0 0 rfl rfl)
theorem dX0_law_1 : decode cX0_law 1 = .ok (.iconst 1, 1) := dk_4 (dk_at dksX0_law_0 1 rfl rfl)
theorem dX0_law_2 : decode cX0_law 2 = .ok (.sipush 240, 3) := dk_17 0 240 (dk_at dksX0_law_0 2 rfl rfl)
theorem dX0_law_5 : decode cX0_law 5 = .ok (.invokestatic 63, 3) := dk_184 0 63 (dk_at dksX0_law_0 5 rfl rfl)
theorem dX0_law_8 : decode cX0_law 8 = .ok (.ifCond .eq 11, 3) := dk_153 0 11 (dk_at dksX0_law_0 8 rfl rfl)
theorem dX0_law_11 : decode cX0_law 11 = .ok (.iload_n 1, 1) := dk_27 (dk_at dksX0_law_0 11 rfl rfl)
theorem dX0_law_12 : decode cX0_law 12 = .ok (.aload_n 0, 1) := dk_42 (dk_at dksX0_law_0 12 rfl rfl)
theorem dX0_law_13 : decode cX0_law 13 = .ok (.getfield 156, 3) := dk_180 0 156 (dk_at dksX0_law_0 13 rfl rfl)
theorem dX0_law_16 : decode cX0_law 16 = .ok (.if_icmp .le 5, 3) := dk_164 0 5 (dk_at dksX0_law_0 16 rfl rfl)
theorem dX0_law_19 : decode cX0_law 19 = .ok (.iconst (-1), 1) := dk_2 (dk_at dksX0_law_0 19 rfl rfl)
theorem dX0_law_20 : decode cX0_law 20 = .ok (.ireturn, 1) := dk_172 (dk_at dksX0_law_0 20 rfl rfl)
theorem dX0_law_21 : decode cX0_law 21 = .ok (.aload_n 0, 1) := dk_42 (dk_at dksX0_law_0 21 rfl rfl)
theorem dX0_law_22 : decode cX0_law 22 = .ok (.iconst 0, 1) := dk_3 (dk_at dksX0_law_0 22 rfl rfl)
theorem dX0_law_23 : decode cX0_law 23 = .ok (.putfield 156, 3) := dk_181 0 156 (dk_at dksX0_law_1 0 rfl rfl)
theorem dX0_law_26 : decode cX0_law 26 = .ok (.new 162, 3) := dk_187 0 162 (dk_at dksX0_law_1 3 rfl rfl)
theorem dX0_law_29 : decode cX0_law 29 = .ok (.dup, 1) := dk_89 (dk_at dksX0_law_1 6 rfl rfl)
theorem dX0_law_30 : decode cX0_law 30 = .ok (.aload_n 0, 1) := dk_42 (dk_at dksX0_law_1 7 rfl rfl)
theorem dX0_law_31 : decode cX0_law 31 = .ok (.iload_n 1, 1) := dk_27 (dk_at dksX0_law_1 8 rfl rfl)
theorem dX0_law_32 : decode cX0_law 32 = .ok (.invokespecial 164, 3) := dk_183 0 164 (dk_at dksX0_law_1 9 rfl rfl)
theorem dX0_law_35 : decode cX0_law 35 = .ok (.astore_n 2, 1) := dk_77 (dk_at dksX0_law_1 12 rfl rfl)
theorem dX0_law_36 : decode cX0_law 36 = .ok (.aload_n 2, 1) := dk_44 (dk_at dksX0_law_1 13 rfl rfl)
theorem dX0_law_37 : decode cX0_law 37 = .ok (.invokevirtual 167, 3) := dk_182 0 167 (dk_at dksX0_law_1 14 rfl rfl)
theorem dX0_law_40 : decode cX0_law 40 = .ok (.istore_n 3, 1) := dk_62 (dk_at dksX0_law_1 17 rfl rfl)
theorem dX0_law_41 : decode cX0_law 41 = .ok (.iload_n 3, 1) := dk_29 (dk_at dksX0_law_1 18 rfl rfl)
theorem dX0_law_42 : decode cX0_law 42 = .ok (.ifCond .lt 11, 3) := dk_155 0 11 (dk_at dksX0_law_1 19 rfl rfl)
theorem dX0_law_45 : decode cX0_law 45 = .ok (.aload_n 0, 1) := dk_42 (dk_at dksX0_law_1 22 rfl rfl)
theorem dX0_law_46 : decode cX0_law 46 = .ok (.aload_n 2, 1) := dk_44 (dk_at dksX0_law_1 23 rfl rfl)
theorem dX0_law_47 : decode cX0_law 47 = .ok (.getfield 170, 3) := dk_180 0 170 (dk_at dksX0_law_2 0 rfl rfl)
theorem dX0_law_50 : decode cX0_law 50 = .ok (.putfield 51, 3) := dk_181 0 51 (dk_at dksX0_law_2 3 rfl rfl)
theorem dX0_law_53 : decode cX0_law 53 = .ok (.iload_n 3, 1) := dk_29 (dk_at dksX0_law_2 6 rfl rfl)
theorem dX0_law_54 : decode cX0_law 54 = .ok (.ireturn, 1) := dk_172 (dk_at dksX0_law_2 7 rfl rfl)
abbrev cX0_plan : ByteArray := prog_1_method_20_code
def yX0_plan : MethodName := ⟨RX0, "plan", "(I)I"⟩
def dkwX0_plan_3 : List UInt8 := [167, 0, 4, 3, 96, 54, 4, 132, 5, 1, 167, 255, 228, 21, 4, 172]
abbrev dktX0_plan_3 : List UInt8 := dkwX0_plan_3 ++ []
def dkwX0_plan_2 : List UInt8 := [3, 54, 4, 3, 54, 5, 21, 5, 29, 162, 0, 28, 21, 4, 44, 21, 5, 182, 0, 181, 153, 0, 7, 4]
abbrev dktX0_plan_2 : List UInt8 := dkwX0_plan_2 ++ dktX0_plan_3
def dkwX0_plan_1 : List UInt8 := [181, 0, 156, 187, 0, 176, 89, 42, 27, 183, 0, 178, 77, 44, 182, 0, 179, 62, 29, 156, 0, 5, 29, 172]
abbrev dktX0_plan_1 : List UInt8 := dkwX0_plan_1 ++ dktX0_plan_2
def dkwX0_plan_0 : List UInt8 := [27, 4, 16, 120, 184, 0, 63, 153, 0, 11, 27, 42, 180, 0, 156, 164, 0, 5, 2, 172, 42, 3]
abbrev dktX0_plan_0 : List UInt8 := dkwX0_plan_0 ++ dktX0_plan_1
theorem dksX0_plan_0 : cX0_plan.data.toList.drop 0 = dktX0_plan_0 := by decide +kernel
theorem dksX0_plan_1 : cX0_plan.data.toList.drop 22 = dktX0_plan_1 := dk_seg dksX0_plan_0 22 rfl rfl
theorem dksX0_plan_2 : cX0_plan.data.toList.drop 46 = dktX0_plan_2 := dk_seg dksX0_plan_1 24 rfl rfl
theorem dksX0_plan_3 : cX0_plan.data.toList.drop 70 = dktX0_plan_3 := dk_seg dksX0_plan_2 24 rfl rfl
theorem dX0_plan_0 : decode cX0_plan 0 = .ok (.iload_n 1, 1) := dk_27 (dk_at dksX0_plan_0 0 rfl rfl)
theorem dX0_plan_1 : decode cX0_plan 1 = .ok (.iconst 1, 1) := dk_4 (dk_at dksX0_plan_0 1 rfl rfl)
theorem dX0_plan_2 : decode cX0_plan 2 = .ok (.bipush 120, 2) := dk_16 120 (dk_at dksX0_plan_0 2 rfl rfl)
theorem dX0_plan_4 : decode cX0_plan 4 = .ok (.invokestatic 63, 3) := dk_184 0 63 (dk_at dksX0_plan_0 4 rfl rfl)
theorem dX0_plan_7 : decode cX0_plan 7 = .ok (.ifCond .eq 11, 3) := dk_153 0 11 (dk_at dksX0_plan_0 7 rfl rfl)
theorem dX0_plan_10 : decode cX0_plan 10 = .ok (.iload_n 1, 1) := dk_27 (dk_at dksX0_plan_0 10 rfl rfl)
theorem dX0_plan_11 : decode cX0_plan 11 = .ok (.aload_n 0, 1) := dk_42 (dk_at dksX0_plan_0 11 rfl rfl)
theorem dX0_plan_12 : decode cX0_plan 12 = .ok (.getfield 156, 3) := dk_180 0 156 (dk_at dksX0_plan_0 12 rfl rfl)
theorem dX0_plan_15 : decode cX0_plan 15 = .ok (.if_icmp .le 5, 3) := dk_164 0 5 (dk_at dksX0_plan_0 15 rfl rfl)
theorem dX0_plan_18 : decode cX0_plan 18 = .ok (.iconst (-1), 1) := dk_2 (dk_at dksX0_plan_0 18 rfl rfl)
theorem dX0_plan_19 : decode cX0_plan 19 = .ok (.ireturn, 1) := dk_172 (dk_at dksX0_plan_0 19 rfl rfl)
theorem dX0_plan_20 : decode cX0_plan 20 = .ok (.aload_n 0, 1) := dk_42 (dk_at dksX0_plan_0 20 rfl rfl)
theorem dX0_plan_21 : decode cX0_plan 21 = .ok (.iconst 0, 1) := dk_3 (dk_at dksX0_plan_0 21 rfl rfl)
theorem dX0_plan_22 : decode cX0_plan 22 = .ok (.putfield 156, 3) := dk_181 0 156 (dk_at dksX0_plan_1 0 rfl rfl)
theorem dX0_plan_25 : decode cX0_plan 25 = .ok (.new 176, 3) := dk_187 0 176 (dk_at dksX0_plan_1 3 rfl rfl)
theorem dX0_plan_28 : decode cX0_plan 28 = .ok (.dup, 1) := dk_89 (dk_at dksX0_plan_1 6 rfl rfl)
theorem dX0_plan_29 : decode cX0_plan 29 = .ok (.aload_n 0, 1) := dk_42 (dk_at dksX0_plan_1 7 rfl rfl)
theorem dX0_plan_30 : decode cX0_plan 30 = .ok (.iload_n 1, 1) := dk_27 (dk_at dksX0_plan_1 8 rfl rfl)
theorem dX0_plan_31 : decode cX0_plan 31 = .ok (.invokespecial 178, 3) := dk_183 0 178 (dk_at dksX0_plan_1 9 rfl rfl)
theorem dX0_plan_34 : decode cX0_plan 34 = .ok (.astore_n 2, 1) := dk_77 (dk_at dksX0_plan_1 12 rfl rfl)
theorem dX0_plan_35 : decode cX0_plan 35 = .ok (.aload_n 2, 1) := dk_44 (dk_at dksX0_plan_1 13 rfl rfl)
theorem dX0_plan_36 : decode cX0_plan 36 = .ok (.invokevirtual 179, 3) := dk_182 0 179 (dk_at dksX0_plan_1 14 rfl rfl)
theorem dX0_plan_39 : decode cX0_plan 39 = .ok (.istore_n 3, 1) := dk_62 (dk_at dksX0_plan_1 17 rfl rfl)
theorem dX0_plan_40 : decode cX0_plan 40 = .ok (.iload_n 3, 1) := dk_29 (dk_at dksX0_plan_1 18 rfl rfl)
theorem dX0_plan_41 : decode cX0_plan 41 = .ok (.ifCond .ge 5, 3) := dk_156 0 5 (dk_at dksX0_plan_1 19 rfl rfl)
theorem dX0_plan_44 : decode cX0_plan 44 = .ok (.iload_n 3, 1) := dk_29 (dk_at dksX0_plan_1 22 rfl rfl)
theorem dX0_plan_45 : decode cX0_plan 45 = .ok (.ireturn, 1) := dk_172 (dk_at dksX0_plan_1 23 rfl rfl)
theorem dX0_plan_46 : decode cX0_plan 46 = .ok (.iconst 0, 1) := dk_3 (dk_at dksX0_plan_2 0 rfl rfl)
theorem dX0_plan_47 : decode cX0_plan 47 = .ok (.istore 4, 2) := dk_54 4 (dk_at dksX0_plan_2 1 rfl rfl)
theorem dX0_plan_49 : decode cX0_plan 49 = .ok (.iconst 0, 1) := dk_3 (dk_at dksX0_plan_2 3 rfl rfl)
theorem dX0_plan_50 : decode cX0_plan 50 = .ok (.istore 5, 2) := dk_54 5 (dk_at dksX0_plan_2 4 rfl rfl)
theorem dX0_plan_52 : decode cX0_plan 52 = .ok (.iload 5, 2) := dk_21 5 (dk_at dksX0_plan_2 6 rfl rfl)
theorem dX0_plan_54 : decode cX0_plan 54 = .ok (.iload_n 3, 1) := dk_29 (dk_at dksX0_plan_2 8 rfl rfl)
theorem dX0_plan_55 : decode cX0_plan 55 = .ok (.if_icmp .ge 28, 3) := dk_162 0 28 (dk_at dksX0_plan_2 9 rfl rfl)
theorem dX0_plan_58 : decode cX0_plan 58 = .ok (.iload 4, 2) := dk_21 4 (dk_at dksX0_plan_2 12 rfl rfl)
theorem dX0_plan_60 : decode cX0_plan 60 = .ok (.aload_n 2, 1) := dk_44 (dk_at dksX0_plan_2 14 rfl rfl)
theorem dX0_plan_61 : decode cX0_plan 61 = .ok (.iload 5, 2) := dk_21 5 (dk_at dksX0_plan_2 15 rfl rfl)
theorem dX0_plan_63 : decode cX0_plan 63 = .ok (.invokevirtual 181, 3) := dk_182 0 181 (dk_at dksX0_plan_2 17 rfl rfl)
theorem dX0_plan_66 : decode cX0_plan 66 = .ok (.ifCond .eq 7, 3) := dk_153 0 7 (dk_at dksX0_plan_2 20 rfl rfl)
theorem dX0_plan_69 : decode cX0_plan 69 = .ok (.iconst 1, 1) := dk_4 (dk_at dksX0_plan_2 23 rfl rfl)
theorem dX0_plan_70 : decode cX0_plan 70 = .ok (.goto 4, 3) := dk_167 0 4 (dk_at dksX0_plan_3 0 rfl rfl)
theorem dX0_plan_73 : decode cX0_plan 73 = .ok (.iconst 0, 1) := dk_3 (dk_at dksX0_plan_3 3 rfl rfl)
theorem dX0_plan_74 : decode cX0_plan 74 = .ok (.iadd, 1) := dk_96 (dk_at dksX0_plan_3 4 rfl rfl)
theorem dX0_plan_75 : decode cX0_plan 75 = .ok (.istore 4, 2) := dk_54 4 (dk_at dksX0_plan_3 5 rfl rfl)
theorem dX0_plan_77 : decode cX0_plan 77 = .ok (.iinc 5 1, 3) := dk_132 5 1 (dk_at dksX0_plan_3 7 rfl rfl)
theorem dX0_plan_80 : decode cX0_plan 80 = .ok (.goto (-28), 3) := dk_167 255 228 (dk_at dksX0_plan_3 10 rfl rfl)
theorem dX0_plan_83 : decode cX0_plan 83 = .ok (.iload 4, 2) := dk_21 4 (dk_at dksX0_plan_3 13 rfl rfl)
theorem dX0_plan_85 : decode cX0_plan 85 = .ok (.ireturn, 1) := dk_172 (dk_at dksX0_plan_3 15 rfl rfl)
abbrev cX0_ticks : ByteArray := prog_1_method_21_code
def yX0_ticks : MethodName := ⟨RX0, "ticks", "(I)I"⟩
def dkwX0_ticks_1 : List UInt8 := [162, 0, 7, 4, 167, 0, 4, 3, 181, 0, 173, 42, 180, 0, 34, 27, 182, 0, 187, 180, 0, 191, 172]
abbrev dktX0_ticks_1 : List UInt8 := dkwX0_ticks_1 ++ []
def dkwX0_ticks_0 : List UInt8 := [27, 4, 17, 0, 200, 184, 0, 63, 154, 0, 5, 2, 172, 42, 42, 180, 0, 34, 180, 0, 184, 17, 39, 15]
abbrev dktX0_ticks_0 : List UInt8 := dkwX0_ticks_0 ++ dktX0_ticks_1
theorem dksX0_ticks_0 : cX0_ticks.data.toList.drop 0 = dktX0_ticks_0 := by decide +kernel
theorem dksX0_ticks_1 : cX0_ticks.data.toList.drop 24 = dktX0_ticks_1 := dk_seg dksX0_ticks_0 24 rfl rfl
theorem dX0_ticks_0 : decode cX0_ticks 0 = .ok (.iload_n 1, 1) := dk_27 (dk_at dksX0_ticks_0 0 rfl rfl)
theorem dX0_ticks_1 : decode cX0_ticks 1 = .ok (.iconst 1, 1) := dk_4 (dk_at dksX0_ticks_0 1 rfl rfl)
theorem dX0_ticks_2 : decode cX0_ticks 2 = .ok (.sipush 200, 3) := dk_17 0 200 (dk_at dksX0_ticks_0 2 rfl rfl)
theorem dX0_ticks_5 : decode cX0_ticks 5 = .ok (.invokestatic 63, 3) := dk_184 0 63 (dk_at dksX0_ticks_0 5 rfl rfl)
theorem dX0_ticks_8 : decode cX0_ticks 8 = .ok (.ifCond .ne 5, 3) := dk_154 0 5 (dk_at dksX0_ticks_0 8 rfl rfl)
theorem dX0_ticks_11 : decode cX0_ticks 11 = .ok (.iconst (-1), 1) := dk_2 (dk_at dksX0_ticks_0 11 rfl rfl)
theorem dX0_ticks_12 : decode cX0_ticks 12 = .ok (.ireturn, 1) := dk_172 (dk_at dksX0_ticks_0 12 rfl rfl)
theorem dX0_ticks_13 : decode cX0_ticks 13 = .ok (.aload_n 0, 1) := dk_42 (dk_at dksX0_ticks_0 13 rfl rfl)
theorem dX0_ticks_14 : decode cX0_ticks 14 = .ok (.aload_n 0, 1) := dk_42 (dk_at dksX0_ticks_0 14 rfl rfl)
theorem dX0_ticks_15 : decode cX0_ticks 15 = .ok (.getfield 34, 3) := dk_180 0 34 (dk_at dksX0_ticks_0 15 rfl rfl)
theorem dX0_ticks_18 : decode cX0_ticks 18 = .ok (.getfield 184, 3) := dk_180 0 184 (dk_at dksX0_ticks_0 18 rfl rfl)
theorem dX0_ticks_21 : decode cX0_ticks 21 = .ok (.sipush 9999, 3) := dk_17 39 15 (dk_at dksX0_ticks_0 21 rfl rfl)
theorem dX0_ticks_24 : decode cX0_ticks 24 = .ok (.if_icmp .ge 7, 3) := dk_162 0 7 (dk_at dksX0_ticks_1 0 rfl rfl)
theorem dX0_ticks_27 : decode cX0_ticks 27 = .ok (.iconst 1, 1) := dk_4 (dk_at dksX0_ticks_1 3 rfl rfl)
theorem dX0_ticks_28 : decode cX0_ticks 28 = .ok (.goto 4, 3) := dk_167 0 4 (dk_at dksX0_ticks_1 4 rfl rfl)
theorem dX0_ticks_31 : decode cX0_ticks 31 = .ok (.iconst 0, 1) := dk_3 (dk_at dksX0_ticks_1 7 rfl rfl)
theorem dX0_ticks_32 : decode cX0_ticks 32 = .ok (.putfield 173, 3) := dk_181 0 173 (dk_at dksX0_ticks_1 8 rfl rfl)
theorem dX0_ticks_35 : decode cX0_ticks 35 = .ok (.aload_n 0, 1) := dk_42 (dk_at dksX0_ticks_1 11 rfl rfl)
theorem dX0_ticks_36 : decode cX0_ticks 36 = .ok (.getfield 34, 3) := dk_180 0 34 (dk_at dksX0_ticks_1 12 rfl rfl)
theorem dX0_ticks_39 : decode cX0_ticks 39 = .ok (.iload_n 1, 1) := dk_27 (dk_at dksX0_ticks_1 15 rfl rfl)
theorem dX0_ticks_40 : decode cX0_ticks 40 = .ok (.invokevirtual 187, 3) := dk_182 0 187 (dk_at dksX0_ticks_1 16 rfl rfl)
theorem dX0_ticks_43 : decode cX0_ticks 43 = .ok (.getfield 191, 3) := dk_180 0 191 (dk_at dksX0_ticks_1 19 rfl rfl)
theorem dX0_ticks_46 : decode cX0_ticks 46 = .ok (.ireturn, 1) := dk_172 (dk_at dksX0_ticks_1 22 rfl rfl)
abbrev cX0_isTicked : ByteArray := prog_1_method_19_code
def yX0_isTicked : MethodName := ⟨RX0, "isTicked", "()Z"⟩
theorem dX0_isTicked_0 : decode cX0_isTicked 0 = .ok (.aload_n 0, 1) := by decide +kernel
theorem dX0_isTicked_1 : decode cX0_isTicked 1 = .ok (.getfield 173, 3) := by decide +kernel
theorem dX0_isTicked_4 : decode cX0_isTicked 4 = .ok (.ireturn, 1) := by decide +kernel
abbrev cX0_tried : ByteArray := prog_1_method_22_code
def yX0_tried : MethodName := ⟨RX0, "tried", "(II)I"⟩
def dkwX0_tried_7 : List UInt8 := [100, 50, 180, 0, 134, 167, 0, 18, 42, 180, 0, 38, 180, 0, 71, 28, 16, 30, 100, 50, 180, 0, 84, 172]
abbrev dktX0_tried_7 : List UInt8 := dkwX0_tried_7 ++ []
def dkwX0_tried_6 : List UInt8 := [100, 50, 180, 0, 97, 167, 0, 42, 28, 16, 30, 162, 0, 21, 42, 180, 0, 38, 180, 0, 71, 28, 16, 20]
abbrev dktX0_tried_6 : List UInt8 := dkwX0_tried_6 ++ dktX0_tried_7
def dkwX0_tried_5 : List UInt8 := [42, 180, 0, 38, 180, 0, 204, 172, 28, 16, 20, 162, 0, 21, 42, 180, 0, 38, 180, 0, 71, 28, 16, 10]
abbrev dktX0_tried_5 : List UInt8 := dkwX0_tried_5 ++ dktX0_tried_6
def dkwX0_tried_4 : List UInt8 := [42, 180, 0, 38, 180, 0, 191, 172, 42, 180, 0, 38, 182, 0, 198, 172, 42, 180, 0, 38, 180, 0, 201, 172]
abbrev dktX0_tried_4 : List UInt8 := dkwX0_tried_4 ++ dktX0_tried_5
def dkwX0_tried_3 : List UInt8 := [170, 0, 0, 0, 0, 0, 0, 64, 0, 0, 0, 0, 0, 0, 0, 3, 0, 0, 0, 32, 0, 0, 0, 40, 0, 0, 0, 48, 0, 0, 0, 56]
abbrev dktX0_tried_3 : List UInt8 := dkwX0_tried_3 ++ dktX0_tried_4
def dkwX0_tried_2 : List UInt8 := [154, 0, 5, 2, 172, 42, 180, 0, 38, 42, 180, 0, 34, 182, 0, 194, 27, 182, 0, 187, 87, 28]
abbrev dktX0_tried_2 : List UInt8 := dkwX0_tried_2 ++ dktX0_tried_3
def dkwX0_tried_1 : List UInt8 := [184, 0, 67, 154, 0, 25, 28, 16, 20, 100, 184, 0, 67, 154, 0, 15, 28, 16, 30, 100, 184, 0, 67]
abbrev dktX0_tried_1 : List UInt8 := dkwX0_tried_1 ++ dktX0_tried_2
def dkwX0_tried_0 : List UInt8 := [27, 4, 17, 0, 200, 184, 0, 63, 153, 0, 41, 28, 7, 184, 0, 12, 154, 0, 35, 28, 16, 10, 100]
abbrev dktX0_tried_0 : List UInt8 := dkwX0_tried_0 ++ dktX0_tried_1
theorem dksX0_tried_0 : cX0_tried.data.toList.drop 0 = dktX0_tried_0 := by decide +kernel
theorem dksX0_tried_1 : cX0_tried.data.toList.drop 23 = dktX0_tried_1 := dk_seg dksX0_tried_0 23 rfl rfl
theorem dksX0_tried_2 : cX0_tried.data.toList.drop 46 = dktX0_tried_2 := dk_seg dksX0_tried_1 23 rfl rfl
theorem dksX0_tried_3 : cX0_tried.data.toList.drop 68 = dktX0_tried_3 := dk_seg dksX0_tried_2 22 rfl rfl
theorem dksX0_tried_4 : cX0_tried.data.toList.drop 100 = dktX0_tried_4 := dk_seg dksX0_tried_3 32 rfl rfl
theorem dksX0_tried_5 : cX0_tried.data.toList.drop 124 = dktX0_tried_5 := dk_seg dksX0_tried_4 24 rfl rfl
theorem dksX0_tried_6 : cX0_tried.data.toList.drop 148 = dktX0_tried_6 := dk_seg dksX0_tried_5 24 rfl rfl
theorem dksX0_tried_7 : cX0_tried.data.toList.drop 172 = dktX0_tried_7 := dk_seg dksX0_tried_6 24 rfl rfl
theorem dX0_tried_0 : decode cX0_tried 0 = .ok (.iload_n 1, 1) := dk_27 (dk_at dksX0_tried_0 0 rfl rfl)
theorem dX0_tried_1 : decode cX0_tried 1 = .ok (.iconst 1, 1) := dk_4 (dk_at dksX0_tried_0 1 rfl rfl)
theorem dX0_tried_2 : decode cX0_tried 2 = .ok (.sipush 200, 3) := dk_17 0 200 (dk_at dksX0_tried_0 2 rfl rfl)
theorem dX0_tried_5 : decode cX0_tried 5 = .ok (.invokestatic 63, 3) := dk_184 0 63 (dk_at dksX0_tried_0 5 rfl rfl)
theorem dX0_tried_8 : decode cX0_tried 8 = .ok (.ifCond .eq 41, 3) := dk_153 0 41 (dk_at dksX0_tried_0 8 rfl rfl)
theorem dX0_tried_11 : decode cX0_tried 11 = .ok (.iload_n 2, 1) := dk_28 (dk_at dksX0_tried_0 11 rfl rfl)
theorem dX0_tried_12 : decode cX0_tried 12 = .ok (.iconst 4, 1) := dk_7 (dk_at dksX0_tried_0 12 rfl rfl)
theorem dX0_tried_13 : decode cX0_tried 13 = .ok (.invokestatic 12, 3) := dk_184 0 12 (dk_at dksX0_tried_0 13 rfl rfl)
theorem dX0_tried_16 : decode cX0_tried 16 = .ok (.ifCond .ne 35, 3) := dk_154 0 35 (dk_at dksX0_tried_0 16 rfl rfl)
theorem dX0_tried_19 : decode cX0_tried 19 = .ok (.iload_n 2, 1) := dk_28 (dk_at dksX0_tried_0 19 rfl rfl)
theorem dX0_tried_20 : decode cX0_tried 20 = .ok (.bipush 10, 2) := dk_16 10 (dk_at dksX0_tried_0 20 rfl rfl)
theorem dX0_tried_22 : decode cX0_tried 22 = .ok (.isub, 1) := dk_100 (dk_at dksX0_tried_0 22 rfl rfl)
theorem dX0_tried_23 : decode cX0_tried 23 = .ok (.invokestatic 67, 3) := dk_184 0 67 (dk_at dksX0_tried_1 0 rfl rfl)
theorem dX0_tried_26 : decode cX0_tried 26 = .ok (.ifCond .ne 25, 3) := dk_154 0 25 (dk_at dksX0_tried_1 3 rfl rfl)
theorem dX0_tried_29 : decode cX0_tried 29 = .ok (.iload_n 2, 1) := dk_28 (dk_at dksX0_tried_1 6 rfl rfl)
theorem dX0_tried_30 : decode cX0_tried 30 = .ok (.bipush 20, 2) := dk_16 20 (dk_at dksX0_tried_1 7 rfl rfl)
theorem dX0_tried_32 : decode cX0_tried 32 = .ok (.isub, 1) := dk_100 (dk_at dksX0_tried_1 9 rfl rfl)
theorem dX0_tried_33 : decode cX0_tried 33 = .ok (.invokestatic 67, 3) := dk_184 0 67 (dk_at dksX0_tried_1 10 rfl rfl)
theorem dX0_tried_36 : decode cX0_tried 36 = .ok (.ifCond .ne 15, 3) := dk_154 0 15 (dk_at dksX0_tried_1 13 rfl rfl)
theorem dX0_tried_39 : decode cX0_tried 39 = .ok (.iload_n 2, 1) := dk_28 (dk_at dksX0_tried_1 16 rfl rfl)
theorem dX0_tried_40 : decode cX0_tried 40 = .ok (.bipush 30, 2) := dk_16 30 (dk_at dksX0_tried_1 17 rfl rfl)
theorem dX0_tried_42 : decode cX0_tried 42 = .ok (.isub, 1) := dk_100 (dk_at dksX0_tried_1 19 rfl rfl)
theorem dX0_tried_43 : decode cX0_tried 43 = .ok (.invokestatic 67, 3) := dk_184 0 67 (dk_at dksX0_tried_1 20 rfl rfl)
theorem dX0_tried_46 : decode cX0_tried 46 = .ok (.ifCond .ne 5, 3) := dk_154 0 5 (dk_at dksX0_tried_2 0 rfl rfl)
theorem dX0_tried_49 : decode cX0_tried 49 = .ok (.iconst (-1), 1) := dk_2 (dk_at dksX0_tried_2 3 rfl rfl)
theorem dX0_tried_50 : decode cX0_tried 50 = .ok (.ireturn, 1) := dk_172 (dk_at dksX0_tried_2 4 rfl rfl)
theorem dX0_tried_51 : decode cX0_tried 51 = .ok (.aload_n 0, 1) := dk_42 (dk_at dksX0_tried_2 5 rfl rfl)
theorem dX0_tried_52 : decode cX0_tried 52 = .ok (.getfield 38, 3) := dk_180 0 38 (dk_at dksX0_tried_2 6 rfl rfl)
theorem dX0_tried_55 : decode cX0_tried 55 = .ok (.aload_n 0, 1) := dk_42 (dk_at dksX0_tried_2 9 rfl rfl)
theorem dX0_tried_56 : decode cX0_tried 56 = .ok (.getfield 34, 3) := dk_180 0 34 (dk_at dksX0_tried_2 10 rfl rfl)
theorem dX0_tried_59 : decode cX0_tried 59 = .ok (.invokevirtual 194, 3) := dk_182 0 194 (dk_at dksX0_tried_2 13 rfl rfl)
theorem dX0_tried_62 : decode cX0_tried 62 = .ok (.iload_n 1, 1) := dk_27 (dk_at dksX0_tried_2 16 rfl rfl)
theorem dX0_tried_63 : decode cX0_tried 63 = .ok (.invokevirtual 187, 3) := dk_182 0 187 (dk_at dksX0_tried_2 17 rfl rfl)
theorem dX0_tried_66 : decode cX0_tried 66 = .ok (.pop, 1) := dk_87 (dk_at dksX0_tried_2 20 rfl rfl)
theorem dX0_tried_67 : decode cX0_tried 67 = .ok (.iload_n 2, 1) := dk_28 (dk_at dksX0_tried_2 21 rfl rfl)
theorem dX0_tried_68 : decode cX0_tried 68 = .ok (.tableswitch 64 0 3 #[32, 40, 48, 56], 32) := by decide +kernel
theorem dX0_tried_100 : decode cX0_tried 100 = .ok (.aload_n 0, 1) := dk_42 (dk_at dksX0_tried_4 0 rfl rfl)
theorem dX0_tried_101 : decode cX0_tried 101 = .ok (.getfield 38, 3) := dk_180 0 38 (dk_at dksX0_tried_4 1 rfl rfl)
theorem dX0_tried_104 : decode cX0_tried 104 = .ok (.getfield 191, 3) := dk_180 0 191 (dk_at dksX0_tried_4 4 rfl rfl)
theorem dX0_tried_107 : decode cX0_tried 107 = .ok (.ireturn, 1) := dk_172 (dk_at dksX0_tried_4 7 rfl rfl)
theorem dX0_tried_108 : decode cX0_tried 108 = .ok (.aload_n 0, 1) := dk_42 (dk_at dksX0_tried_4 8 rfl rfl)
theorem dX0_tried_109 : decode cX0_tried 109 = .ok (.getfield 38, 3) := dk_180 0 38 (dk_at dksX0_tried_4 9 rfl rfl)
theorem dX0_tried_112 : decode cX0_tried 112 = .ok (.invokevirtual 198, 3) := dk_182 0 198 (dk_at dksX0_tried_4 12 rfl rfl)
theorem dX0_tried_115 : decode cX0_tried 115 = .ok (.ireturn, 1) := dk_172 (dk_at dksX0_tried_4 15 rfl rfl)
theorem dX0_tried_116 : decode cX0_tried 116 = .ok (.aload_n 0, 1) := dk_42 (dk_at dksX0_tried_4 16 rfl rfl)
theorem dX0_tried_117 : decode cX0_tried 117 = .ok (.getfield 38, 3) := dk_180 0 38 (dk_at dksX0_tried_4 17 rfl rfl)
theorem dX0_tried_120 : decode cX0_tried 120 = .ok (.getfield 201, 3) := dk_180 0 201 (dk_at dksX0_tried_4 20 rfl rfl)
theorem dX0_tried_123 : decode cX0_tried 123 = .ok (.ireturn, 1) := dk_172 (dk_at dksX0_tried_4 23 rfl rfl)
theorem dX0_tried_124 : decode cX0_tried 124 = .ok (.aload_n 0, 1) := dk_42 (dk_at dksX0_tried_5 0 rfl rfl)
theorem dX0_tried_125 : decode cX0_tried 125 = .ok (.getfield 38, 3) := dk_180 0 38 (dk_at dksX0_tried_5 1 rfl rfl)
theorem dX0_tried_128 : decode cX0_tried 128 = .ok (.getfield 204, 3) := dk_180 0 204 (dk_at dksX0_tried_5 4 rfl rfl)
theorem dX0_tried_131 : decode cX0_tried 131 = .ok (.ireturn, 1) := dk_172 (dk_at dksX0_tried_5 7 rfl rfl)
theorem dX0_tried_132 : decode cX0_tried 132 = .ok (.iload_n 2, 1) := dk_28 (dk_at dksX0_tried_5 8 rfl rfl)
theorem dX0_tried_133 : decode cX0_tried 133 = .ok (.bipush 20, 2) := dk_16 20 (dk_at dksX0_tried_5 9 rfl rfl)
theorem dX0_tried_135 : decode cX0_tried 135 = .ok (.if_icmp .ge 21, 3) := dk_162 0 21 (dk_at dksX0_tried_5 11 rfl rfl)
theorem dX0_tried_138 : decode cX0_tried 138 = .ok (.aload_n 0, 1) := dk_42 (dk_at dksX0_tried_5 14 rfl rfl)
theorem dX0_tried_139 : decode cX0_tried 139 = .ok (.getfield 38, 3) := dk_180 0 38 (dk_at dksX0_tried_5 15 rfl rfl)
theorem dX0_tried_142 : decode cX0_tried 142 = .ok (.getfield 71, 3) := dk_180 0 71 (dk_at dksX0_tried_5 18 rfl rfl)
theorem dX0_tried_145 : decode cX0_tried 145 = .ok (.iload_n 2, 1) := dk_28 (dk_at dksX0_tried_5 21 rfl rfl)
theorem dX0_tried_146 : decode cX0_tried 146 = .ok (.bipush 10, 2) := dk_16 10 (dk_at dksX0_tried_5 22 rfl rfl)
theorem dX0_tried_148 : decode cX0_tried 148 = .ok (.isub, 1) := dk_100 (dk_at dksX0_tried_6 0 rfl rfl)
theorem dX0_tried_149 : decode cX0_tried 149 = .ok (.aaload, 1) := dk_50 (dk_at dksX0_tried_6 1 rfl rfl)
theorem dX0_tried_150 : decode cX0_tried 150 = .ok (.getfield 97, 3) := dk_180 0 97 (dk_at dksX0_tried_6 2 rfl rfl)
theorem dX0_tried_153 : decode cX0_tried 153 = .ok (.goto 42, 3) := dk_167 0 42 (dk_at dksX0_tried_6 5 rfl rfl)
theorem dX0_tried_156 : decode cX0_tried 156 = .ok (.iload_n 2, 1) := dk_28 (dk_at dksX0_tried_6 8 rfl rfl)
theorem dX0_tried_157 : decode cX0_tried 157 = .ok (.bipush 30, 2) := dk_16 30 (dk_at dksX0_tried_6 9 rfl rfl)
theorem dX0_tried_159 : decode cX0_tried 159 = .ok (.if_icmp .ge 21, 3) := dk_162 0 21 (dk_at dksX0_tried_6 11 rfl rfl)
theorem dX0_tried_162 : decode cX0_tried 162 = .ok (.aload_n 0, 1) := dk_42 (dk_at dksX0_tried_6 14 rfl rfl)
theorem dX0_tried_163 : decode cX0_tried 163 = .ok (.getfield 38, 3) := dk_180 0 38 (dk_at dksX0_tried_6 15 rfl rfl)
theorem dX0_tried_166 : decode cX0_tried 166 = .ok (.getfield 71, 3) := dk_180 0 71 (dk_at dksX0_tried_6 18 rfl rfl)
theorem dX0_tried_169 : decode cX0_tried 169 = .ok (.iload_n 2, 1) := dk_28 (dk_at dksX0_tried_6 21 rfl rfl)
theorem dX0_tried_170 : decode cX0_tried 170 = .ok (.bipush 20, 2) := dk_16 20 (dk_at dksX0_tried_6 22 rfl rfl)
theorem dX0_tried_172 : decode cX0_tried 172 = .ok (.isub, 1) := dk_100 (dk_at dksX0_tried_7 0 rfl rfl)
theorem dX0_tried_173 : decode cX0_tried 173 = .ok (.aaload, 1) := dk_50 (dk_at dksX0_tried_7 1 rfl rfl)
theorem dX0_tried_174 : decode cX0_tried 174 = .ok (.getfield 134, 3) := dk_180 0 134 (dk_at dksX0_tried_7 2 rfl rfl)
theorem dX0_tried_177 : decode cX0_tried 177 = .ok (.goto 18, 3) := dk_167 0 18 (dk_at dksX0_tried_7 5 rfl rfl)
theorem dX0_tried_180 : decode cX0_tried 180 = .ok (.aload_n 0, 1) := dk_42 (dk_at dksX0_tried_7 8 rfl rfl)
theorem dX0_tried_181 : decode cX0_tried 181 = .ok (.getfield 38, 3) := dk_180 0 38 (dk_at dksX0_tried_7 9 rfl rfl)
theorem dX0_tried_184 : decode cX0_tried 184 = .ok (.getfield 71, 3) := dk_180 0 71 (dk_at dksX0_tried_7 12 rfl rfl)
theorem dX0_tried_187 : decode cX0_tried 187 = .ok (.iload_n 2, 1) := dk_28 (dk_at dksX0_tried_7 15 rfl rfl)
theorem dX0_tried_188 : decode cX0_tried 188 = .ok (.bipush 30, 2) := dk_16 30 (dk_at dksX0_tried_7 16 rfl rfl)
theorem dX0_tried_190 : decode cX0_tried 190 = .ok (.isub, 1) := dk_100 (dk_at dksX0_tried_7 18 rfl rfl)
theorem dX0_tried_191 : decode cX0_tried 191 = .ok (.aaload, 1) := dk_50 (dk_at dksX0_tried_7 19 rfl rfl)
theorem dX0_tried_192 : decode cX0_tried 192 = .ok (.getfield 84, 3) := dk_180 0 84 (dk_at dksX0_tried_7 20 rfl rfl)
theorem dX0_tried_195 : decode cX0_tried 195 = .ok (.ireturn, 1) := dk_172 (dk_at dksX0_tried_7 23 rfl rfl)
abbrev cX0_nodeIs : ByteArray := prog_1_method_24_code
def yX0_nodeIs : MethodName := ⟨RX0, "nodeIs", "(II)I"⟩
def dkwX0_nodeIs_6 : List UInt8 := [172, 45, 45, 180, 0, 137, 184, 0, 213, 172, 45, 45, 182, 0, 217, 182, 0, 130, 172, 2, 172]
abbrev dktX0_nodeIs_6 : List UInt8 := dkwX0_nodeIs_6 ++ []
def dkwX0_nodeIs_5 : List UInt8 := [182, 0, 116, 172, 45, 45, 180, 0, 223, 184, 0, 210, 184, 0, 213, 172, 45, 45, 180, 0, 226, 184, 0, 213]
abbrev dktX0_nodeIs_5 : List UInt8 := dkwX0_nodeIs_5 ++ dktX0_nodeIs_6
def dkwX0_nodeIs_4 : List UInt8 := [184, 0, 213, 172, 45, 180, 0, 100, 172, 45, 45, 180, 0, 220, 184, 0, 213, 172, 45, 182, 0, 124, 172, 45]
abbrev dktX0_nodeIs_4 : List UInt8 := dkwX0_nodeIs_4 ++ dktX0_nodeIs_5
def dkwX0_nodeIs_3 : List UInt8 := [184, 0, 210, 172, 45, 45, 180, 0, 84, 184, 0, 213, 172, 45, 182, 0, 217, 172, 45, 45, 180, 0, 97]
abbrev dktX0_nodeIs_3 : List UInt8 := dkwX0_nodeIs_3 ++ dktX0_nodeIs_4
def dkwX0_nodeIs_2 : List UInt8 := [45, 180, 0, 75, 153, 0, 7, 4, 167, 0, 4, 3, 172, 45, 180, 0, 134, 172, 45, 180, 0, 207]
abbrev dktX0_nodeIs_2 : List UInt8 := dkwX0_nodeIs_2 ++ dktX0_nodeIs_3
def dkwX0_nodeIs_1 : List UInt8 := [170, 0, 0, 0, 0, 0, 0, 184, 0, 0, 0, 0, 0, 0, 0, 13, 0, 0, 0, 72, 0, 0, 0, 85, 0, 0, 0, 90, 0, 0, 0, 98, 0, 0, 0, 107, 0, 0, 0, 112, 0, 0, 0, 121, 0, 0, 0, 126, 0, 0, 0, 135, 0, 0, 0, 140, 0, 0, 0, 145, 0, 0, 0, 157, 0, 0, 0, 166, 0, 0, 0, 175]
abbrev dktX0_nodeIs_1 : List UInt8 := dkwX0_nodeIs_1 ++ dktX0_nodeIs_2
def dkwX0_nodeIs_0 : List UInt8 := [27, 184, 0, 67, 154, 0, 5, 2, 172, 42, 180, 0, 34, 180, 0, 71, 27, 50, 78, 28]
abbrev dktX0_nodeIs_0 : List UInt8 := dkwX0_nodeIs_0 ++ dktX0_nodeIs_1
theorem dksX0_nodeIs_0 : cX0_nodeIs.data.toList.drop 0 = dktX0_nodeIs_0 := by decide +kernel
theorem dksX0_nodeIs_1 : cX0_nodeIs.data.toList.drop 20 = dktX0_nodeIs_1 := dk_seg dksX0_nodeIs_0 20 rfl rfl
theorem dksX0_nodeIs_2 : cX0_nodeIs.data.toList.drop 92 = dktX0_nodeIs_2 := dk_seg dksX0_nodeIs_1 72 rfl rfl
theorem dksX0_nodeIs_3 : cX0_nodeIs.data.toList.drop 114 = dktX0_nodeIs_3 := dk_seg dksX0_nodeIs_2 22 rfl rfl
theorem dksX0_nodeIs_4 : cX0_nodeIs.data.toList.drop 137 = dktX0_nodeIs_4 := dk_seg dksX0_nodeIs_3 23 rfl rfl
theorem dksX0_nodeIs_5 : cX0_nodeIs.data.toList.drop 161 = dktX0_nodeIs_5 := dk_seg dksX0_nodeIs_4 24 rfl rfl
theorem dksX0_nodeIs_6 : cX0_nodeIs.data.toList.drop 185 = dktX0_nodeIs_6 := dk_seg dksX0_nodeIs_5 24 rfl rfl
theorem dX0_nodeIs_0 : decode cX0_nodeIs 0 = .ok (.iload_n 1, 1) := dk_27 (dk_at dksX0_nodeIs_0 0 rfl rfl)
theorem dX0_nodeIs_1 : decode cX0_nodeIs 1 = .ok (.invokestatic 67, 3) := dk_184 0 67 (dk_at dksX0_nodeIs_0 1 rfl rfl)
theorem dX0_nodeIs_4 : decode cX0_nodeIs 4 = .ok (.ifCond .ne 5, 3) := dk_154 0 5 (dk_at dksX0_nodeIs_0 4 rfl rfl)
theorem dX0_nodeIs_7 : decode cX0_nodeIs 7 = .ok (.iconst (-1), 1) := dk_2 (dk_at dksX0_nodeIs_0 7 rfl rfl)
theorem dX0_nodeIs_8 : decode cX0_nodeIs 8 = .ok (.ireturn, 1) := dk_172 (dk_at dksX0_nodeIs_0 8 rfl rfl)
theorem dX0_nodeIs_9 : decode cX0_nodeIs 9 = .ok (.aload_n 0, 1) := dk_42 (dk_at dksX0_nodeIs_0 9 rfl rfl)
theorem dX0_nodeIs_10 : decode cX0_nodeIs 10 = .ok (.getfield 34, 3) := dk_180 0 34 (dk_at dksX0_nodeIs_0 10 rfl rfl)
theorem dX0_nodeIs_13 : decode cX0_nodeIs 13 = .ok (.getfield 71, 3) := dk_180 0 71 (dk_at dksX0_nodeIs_0 13 rfl rfl)
theorem dX0_nodeIs_16 : decode cX0_nodeIs 16 = .ok (.iload_n 1, 1) := dk_27 (dk_at dksX0_nodeIs_0 16 rfl rfl)
theorem dX0_nodeIs_17 : decode cX0_nodeIs 17 = .ok (.aaload, 1) := dk_50 (dk_at dksX0_nodeIs_0 17 rfl rfl)
theorem dX0_nodeIs_18 : decode cX0_nodeIs 18 = .ok (.astore_n 3, 1) := dk_78 (dk_at dksX0_nodeIs_0 18 rfl rfl)
theorem dX0_nodeIs_19 : decode cX0_nodeIs 19 = .ok (.iload_n 2, 1) := dk_28 (dk_at dksX0_nodeIs_0 19 rfl rfl)
theorem dX0_nodeIs_20 : decode cX0_nodeIs 20 = .ok (.tableswitch 184 0 13 #[72, 85, 90, 98, 107, 112, 121, 126, 135, 140, 145, 157, 166, 175], 72) := by decide +kernel
theorem dX0_nodeIs_92 : decode cX0_nodeIs 92 = .ok (.aload_n 3, 1) := dk_45 (dk_at dksX0_nodeIs_2 0 rfl rfl)
theorem dX0_nodeIs_93 : decode cX0_nodeIs 93 = .ok (.getfield 75, 3) := dk_180 0 75 (dk_at dksX0_nodeIs_2 1 rfl rfl)
theorem dX0_nodeIs_96 : decode cX0_nodeIs 96 = .ok (.ifCond .eq 7, 3) := dk_153 0 7 (dk_at dksX0_nodeIs_2 4 rfl rfl)
theorem dX0_nodeIs_99 : decode cX0_nodeIs 99 = .ok (.iconst 1, 1) := dk_4 (dk_at dksX0_nodeIs_2 7 rfl rfl)
theorem dX0_nodeIs_100 : decode cX0_nodeIs 100 = .ok (.goto 4, 3) := dk_167 0 4 (dk_at dksX0_nodeIs_2 8 rfl rfl)
theorem dX0_nodeIs_103 : decode cX0_nodeIs 103 = .ok (.iconst 0, 1) := dk_3 (dk_at dksX0_nodeIs_2 11 rfl rfl)
theorem dX0_nodeIs_104 : decode cX0_nodeIs 104 = .ok (.ireturn, 1) := dk_172 (dk_at dksX0_nodeIs_2 12 rfl rfl)
theorem dX0_nodeIs_105 : decode cX0_nodeIs 105 = .ok (.aload_n 3, 1) := dk_45 (dk_at dksX0_nodeIs_2 13 rfl rfl)
theorem dX0_nodeIs_106 : decode cX0_nodeIs 106 = .ok (.getfield 134, 3) := dk_180 0 134 (dk_at dksX0_nodeIs_2 14 rfl rfl)
theorem dX0_nodeIs_109 : decode cX0_nodeIs 109 = .ok (.ireturn, 1) := dk_172 (dk_at dksX0_nodeIs_2 17 rfl rfl)
theorem dX0_nodeIs_110 : decode cX0_nodeIs 110 = .ok (.aload_n 3, 1) := dk_45 (dk_at dksX0_nodeIs_2 18 rfl rfl)
theorem dX0_nodeIs_111 : decode cX0_nodeIs 111 = .ok (.getfield 207, 3) := dk_180 0 207 (dk_at dksX0_nodeIs_2 19 rfl rfl)
theorem dX0_nodeIs_114 : decode cX0_nodeIs 114 = .ok (.invokestatic 210, 3) := dk_184 0 210 (dk_at dksX0_nodeIs_3 0 rfl rfl)
theorem dX0_nodeIs_117 : decode cX0_nodeIs 117 = .ok (.ireturn, 1) := dk_172 (dk_at dksX0_nodeIs_3 3 rfl rfl)
theorem dX0_nodeIs_118 : decode cX0_nodeIs 118 = .ok (.aload_n 3, 1) := dk_45 (dk_at dksX0_nodeIs_3 4 rfl rfl)
theorem dX0_nodeIs_119 : decode cX0_nodeIs 119 = .ok (.aload_n 3, 1) := dk_45 (dk_at dksX0_nodeIs_3 5 rfl rfl)
theorem dX0_nodeIs_120 : decode cX0_nodeIs 120 = .ok (.getfield 84, 3) := dk_180 0 84 (dk_at dksX0_nodeIs_3 6 rfl rfl)
theorem dX0_nodeIs_123 : decode cX0_nodeIs 123 = .ok (.invokestatic 213, 3) := dk_184 0 213 (dk_at dksX0_nodeIs_3 9 rfl rfl)
theorem dX0_nodeIs_126 : decode cX0_nodeIs 126 = .ok (.ireturn, 1) := dk_172 (dk_at dksX0_nodeIs_3 12 rfl rfl)
theorem dX0_nodeIs_127 : decode cX0_nodeIs 127 = .ok (.aload_n 3, 1) := dk_45 (dk_at dksX0_nodeIs_3 13 rfl rfl)
theorem dX0_nodeIs_128 : decode cX0_nodeIs 128 = .ok (.invokevirtual 217, 3) := dk_182 0 217 (dk_at dksX0_nodeIs_3 14 rfl rfl)
theorem dX0_nodeIs_131 : decode cX0_nodeIs 131 = .ok (.ireturn, 1) := dk_172 (dk_at dksX0_nodeIs_3 17 rfl rfl)
theorem dX0_nodeIs_132 : decode cX0_nodeIs 132 = .ok (.aload_n 3, 1) := dk_45 (dk_at dksX0_nodeIs_3 18 rfl rfl)
theorem dX0_nodeIs_133 : decode cX0_nodeIs 133 = .ok (.aload_n 3, 1) := dk_45 (dk_at dksX0_nodeIs_3 19 rfl rfl)
theorem dX0_nodeIs_134 : decode cX0_nodeIs 134 = .ok (.getfield 97, 3) := dk_180 0 97 (dk_at dksX0_nodeIs_3 20 rfl rfl)
theorem dX0_nodeIs_137 : decode cX0_nodeIs 137 = .ok (.invokestatic 213, 3) := dk_184 0 213 (dk_at dksX0_nodeIs_4 0 rfl rfl)
theorem dX0_nodeIs_140 : decode cX0_nodeIs 140 = .ok (.ireturn, 1) := dk_172 (dk_at dksX0_nodeIs_4 3 rfl rfl)
theorem dX0_nodeIs_141 : decode cX0_nodeIs 141 = .ok (.aload_n 3, 1) := dk_45 (dk_at dksX0_nodeIs_4 4 rfl rfl)
theorem dX0_nodeIs_142 : decode cX0_nodeIs 142 = .ok (.getfield 100, 3) := dk_180 0 100 (dk_at dksX0_nodeIs_4 5 rfl rfl)
theorem dX0_nodeIs_145 : decode cX0_nodeIs 145 = .ok (.ireturn, 1) := dk_172 (dk_at dksX0_nodeIs_4 8 rfl rfl)
theorem dX0_nodeIs_146 : decode cX0_nodeIs 146 = .ok (.aload_n 3, 1) := dk_45 (dk_at dksX0_nodeIs_4 9 rfl rfl)
theorem dX0_nodeIs_147 : decode cX0_nodeIs 147 = .ok (.aload_n 3, 1) := dk_45 (dk_at dksX0_nodeIs_4 10 rfl rfl)
theorem dX0_nodeIs_148 : decode cX0_nodeIs 148 = .ok (.getfield 220, 3) := dk_180 0 220 (dk_at dksX0_nodeIs_4 11 rfl rfl)
theorem dX0_nodeIs_151 : decode cX0_nodeIs 151 = .ok (.invokestatic 213, 3) := dk_184 0 213 (dk_at dksX0_nodeIs_4 14 rfl rfl)
theorem dX0_nodeIs_154 : decode cX0_nodeIs 154 = .ok (.ireturn, 1) := dk_172 (dk_at dksX0_nodeIs_4 17 rfl rfl)
theorem dX0_nodeIs_155 : decode cX0_nodeIs 155 = .ok (.aload_n 3, 1) := dk_45 (dk_at dksX0_nodeIs_4 18 rfl rfl)
theorem dX0_nodeIs_156 : decode cX0_nodeIs 156 = .ok (.invokevirtual 124, 3) := dk_182 0 124 (dk_at dksX0_nodeIs_4 19 rfl rfl)
theorem dX0_nodeIs_159 : decode cX0_nodeIs 159 = .ok (.ireturn, 1) := dk_172 (dk_at dksX0_nodeIs_4 22 rfl rfl)
theorem dX0_nodeIs_160 : decode cX0_nodeIs 160 = .ok (.aload_n 3, 1) := dk_45 (dk_at dksX0_nodeIs_4 23 rfl rfl)
theorem dX0_nodeIs_161 : decode cX0_nodeIs 161 = .ok (.invokevirtual 116, 3) := dk_182 0 116 (dk_at dksX0_nodeIs_5 0 rfl rfl)
theorem dX0_nodeIs_164 : decode cX0_nodeIs 164 = .ok (.ireturn, 1) := dk_172 (dk_at dksX0_nodeIs_5 3 rfl rfl)
theorem dX0_nodeIs_165 : decode cX0_nodeIs 165 = .ok (.aload_n 3, 1) := dk_45 (dk_at dksX0_nodeIs_5 4 rfl rfl)
theorem dX0_nodeIs_166 : decode cX0_nodeIs 166 = .ok (.aload_n 3, 1) := dk_45 (dk_at dksX0_nodeIs_5 5 rfl rfl)
theorem dX0_nodeIs_167 : decode cX0_nodeIs 167 = .ok (.getfield 223, 3) := dk_180 0 223 (dk_at dksX0_nodeIs_5 6 rfl rfl)
theorem dX0_nodeIs_170 : decode cX0_nodeIs 170 = .ok (.invokestatic 210, 3) := dk_184 0 210 (dk_at dksX0_nodeIs_5 9 rfl rfl)
theorem dX0_nodeIs_173 : decode cX0_nodeIs 173 = .ok (.invokestatic 213, 3) := dk_184 0 213 (dk_at dksX0_nodeIs_5 12 rfl rfl)
theorem dX0_nodeIs_176 : decode cX0_nodeIs 176 = .ok (.ireturn, 1) := dk_172 (dk_at dksX0_nodeIs_5 15 rfl rfl)
theorem dX0_nodeIs_177 : decode cX0_nodeIs 177 = .ok (.aload_n 3, 1) := dk_45 (dk_at dksX0_nodeIs_5 16 rfl rfl)
theorem dX0_nodeIs_178 : decode cX0_nodeIs 178 = .ok (.aload_n 3, 1) := dk_45 (dk_at dksX0_nodeIs_5 17 rfl rfl)
theorem dX0_nodeIs_179 : decode cX0_nodeIs 179 = .ok (.getfield 226, 3) := dk_180 0 226 (dk_at dksX0_nodeIs_5 18 rfl rfl)
theorem dX0_nodeIs_182 : decode cX0_nodeIs 182 = .ok (.invokestatic 213, 3) := dk_184 0 213 (dk_at dksX0_nodeIs_5 21 rfl rfl)
theorem dX0_nodeIs_185 : decode cX0_nodeIs 185 = .ok (.ireturn, 1) := dk_172 (dk_at dksX0_nodeIs_6 0 rfl rfl)
theorem dX0_nodeIs_186 : decode cX0_nodeIs 186 = .ok (.aload_n 3, 1) := dk_45 (dk_at dksX0_nodeIs_6 1 rfl rfl)
theorem dX0_nodeIs_187 : decode cX0_nodeIs 187 = .ok (.aload_n 3, 1) := dk_45 (dk_at dksX0_nodeIs_6 2 rfl rfl)
theorem dX0_nodeIs_188 : decode cX0_nodeIs 188 = .ok (.getfield 137, 3) := dk_180 0 137 (dk_at dksX0_nodeIs_6 3 rfl rfl)
theorem dX0_nodeIs_191 : decode cX0_nodeIs 191 = .ok (.invokestatic 213, 3) := dk_184 0 213 (dk_at dksX0_nodeIs_6 6 rfl rfl)
theorem dX0_nodeIs_194 : decode cX0_nodeIs 194 = .ok (.ireturn, 1) := dk_172 (dk_at dksX0_nodeIs_6 9 rfl rfl)
theorem dX0_nodeIs_195 : decode cX0_nodeIs 195 = .ok (.aload_n 3, 1) := dk_45 (dk_at dksX0_nodeIs_6 10 rfl rfl)
theorem dX0_nodeIs_196 : decode cX0_nodeIs 196 = .ok (.aload_n 3, 1) := dk_45 (dk_at dksX0_nodeIs_6 11 rfl rfl)
theorem dX0_nodeIs_197 : decode cX0_nodeIs 197 = .ok (.invokevirtual 217, 3) := dk_182 0 217 (dk_at dksX0_nodeIs_6 12 rfl rfl)
theorem dX0_nodeIs_200 : decode cX0_nodeIs 200 = .ok (.invokevirtual 130, 3) := dk_182 0 130 (dk_at dksX0_nodeIs_6 15 rfl rfl)
theorem dX0_nodeIs_203 : decode cX0_nodeIs 203 = .ok (.ireturn, 1) := dk_172 (dk_at dksX0_nodeIs_6 18 rfl rfl)
theorem dX0_nodeIs_204 : decode cX0_nodeIs 204 = .ok (.iconst (-1), 1) := dk_2 (dk_at dksX0_nodeIs_6 19 rfl rfl)
theorem dX0_nodeIs_205 : decode cX0_nodeIs 205 = .ok (.ireturn, 1) := dk_172 (dk_at dksX0_nodeIs_6 20 rfl rfl)
abbrev cX0_orNone : ByteArray := prog_1_method_5_code
def yX0_orNone : MethodName := ⟨RX0, "orNone", "(I)I"⟩
def dkwX0_orNone_0 : List UInt8 := [26, 2, 160, 0, 8, 16, 254, 167, 0, 4, 26, 172]
abbrev dktX0_orNone_0 : List UInt8 := dkwX0_orNone_0 ++ []
theorem dksX0_orNone_0 : cX0_orNone.data.toList.drop 0 = dktX0_orNone_0 := by decide +kernel
theorem dX0_orNone_0 : decode cX0_orNone 0 = .ok (.iload_n 0, 1) := dk_26 (dk_at dksX0_orNone_0 0 rfl rfl)
theorem dX0_orNone_1 : decode cX0_orNone 1 = .ok (.iconst (-1), 1) := dk_2 (dk_at dksX0_orNone_0 1 rfl rfl)
theorem dX0_orNone_2 : decode cX0_orNone 2 = .ok (.if_icmp .ne 8, 3) := dk_160 0 8 (dk_at dksX0_orNone_0 2 rfl rfl)
theorem dX0_orNone_5 : decode cX0_orNone 5 = .ok (.bipush (-2), 2) := dk_16 254 (dk_at dksX0_orNone_0 5 rfl rfl)
theorem dX0_orNone_7 : decode cX0_orNone 7 = .ok (.goto 4, 3) := dk_167 0 4 (dk_at dksX0_orNone_0 7 rfl rfl)
theorem dX0_orNone_10 : decode cX0_orNone 10 = .ok (.iload_n 0, 1) := dk_26 (dk_at dksX0_orNone_0 10 rfl rfl)
theorem dX0_orNone_11 : decode cX0_orNone 11 = .ok (.ireturn, 1) := dk_172 (dk_at dksX0_orNone_0 11 rfl rfl)
abbrev cX0_ofUp : ByteArray := prog_1_method_23_code
def yX0_ofUp : MethodName := ⟨RX0, "ofUp", "(LTermLog$Node;I)I"⟩
def dkwX0_ofUp_0 : List UInt8 := [42, 180, 0, 75, 153, 0, 7, 27, 167, 0, 5, 16, 254, 172]
abbrev dktX0_ofUp_0 : List UInt8 := dkwX0_ofUp_0 ++ []
theorem dksX0_ofUp_0 : cX0_ofUp.data.toList.drop 0 = dktX0_ofUp_0 := by decide +kernel
theorem dX0_ofUp_0 : decode cX0_ofUp 0 = .ok (.aload_n 0, 1) := dk_42 (dk_at dksX0_ofUp_0 0 rfl rfl)
theorem dX0_ofUp_1 : decode cX0_ofUp 1 = .ok (.getfield 75, 3) := dk_180 0 75 (dk_at dksX0_ofUp_0 1 rfl rfl)
theorem dX0_ofUp_4 : decode cX0_ofUp 4 = .ok (.ifCond .eq 7, 3) := dk_153 0 7 (dk_at dksX0_ofUp_0 4 rfl rfl)
theorem dX0_ofUp_7 : decode cX0_ofUp 7 = .ok (.iload_n 1, 1) := dk_27 (dk_at dksX0_ofUp_0 7 rfl rfl)
theorem dX0_ofUp_8 : decode cX0_ofUp 8 = .ok (.goto 5, 3) := dk_167 0 5 (dk_at dksX0_ofUp_0 8 rfl rfl)
theorem dX0_ofUp_11 : decode cX0_ofUp 11 = .ok (.bipush (-2), 2) := dk_16 254 (dk_at dksX0_ofUp_0 11 rfl rfl)
theorem dX0_ofUp_13 : decode cX0_ofUp 13 = .ok (.ireturn, 1) := dk_172 (dk_at dksX0_ofUp_0 13 rfl rfl)
abbrev cX0_entryAt : ByteArray := prog_1_method_26_code
def yX0_entryAt : MethodName := ⟨RX0, "entryAt", "(III)I"⟩
def dkwX0_entryAt_2 : List UInt8 := [153, 0, 13, 25, 4, 28, 29, 184, 0, 244, 167, 0, 5, 16, 254, 172]
abbrev dktX0_entryAt_2 : List UInt8 := dkwX0_entryAt_2 ++ []
def dkwX0_entryAt_1 : List UInt8 := [154, 0, 5, 2, 172, 42, 180, 0, 34, 180, 0, 71, 27, 50, 58, 4, 25, 4, 28, 182, 0, 241]
abbrev dktX0_entryAt_1 : List UInt8 := dkwX0_entryAt_1 ++ dktX0_entryAt_2
def dkwX0_entryAt_0 : List UInt8 := [27, 184, 0, 67, 153, 0, 22, 28, 4, 17, 3, 231, 184, 0, 63, 153, 0, 11, 29, 7, 184, 0, 12]
abbrev dktX0_entryAt_0 : List UInt8 := dkwX0_entryAt_0 ++ dktX0_entryAt_1
theorem dksX0_entryAt_0 : cX0_entryAt.data.toList.drop 0 = dktX0_entryAt_0 := by decide +kernel
theorem dksX0_entryAt_1 : cX0_entryAt.data.toList.drop 23 = dktX0_entryAt_1 := dk_seg dksX0_entryAt_0 23 rfl rfl
theorem dksX0_entryAt_2 : cX0_entryAt.data.toList.drop 45 = dktX0_entryAt_2 := dk_seg dksX0_entryAt_1 22 rfl rfl
theorem dX0_entryAt_0 : decode cX0_entryAt 0 = .ok (.iload_n 1, 1) := dk_27 (dk_at dksX0_entryAt_0 0 rfl rfl)
theorem dX0_entryAt_1 : decode cX0_entryAt 1 = .ok (.invokestatic 67, 3) := dk_184 0 67 (dk_at dksX0_entryAt_0 1 rfl rfl)
theorem dX0_entryAt_4 : decode cX0_entryAt 4 = .ok (.ifCond .eq 22, 3) := dk_153 0 22 (dk_at dksX0_entryAt_0 4 rfl rfl)
theorem dX0_entryAt_7 : decode cX0_entryAt 7 = .ok (.iload_n 2, 1) := dk_28 (dk_at dksX0_entryAt_0 7 rfl rfl)
theorem dX0_entryAt_8 : decode cX0_entryAt 8 = .ok (.iconst 1, 1) := dk_4 (dk_at dksX0_entryAt_0 8 rfl rfl)
theorem dX0_entryAt_9 : decode cX0_entryAt 9 = .ok (.sipush 999, 3) := dk_17 3 231 (dk_at dksX0_entryAt_0 9 rfl rfl)
theorem dX0_entryAt_12 : decode cX0_entryAt 12 = .ok (.invokestatic 63, 3) := dk_184 0 63 (dk_at dksX0_entryAt_0 12 rfl rfl)
theorem dX0_entryAt_15 : decode cX0_entryAt 15 = .ok (.ifCond .eq 11, 3) := dk_153 0 11 (dk_at dksX0_entryAt_0 15 rfl rfl)
theorem dX0_entryAt_18 : decode cX0_entryAt 18 = .ok (.iload_n 3, 1) := dk_29 (dk_at dksX0_entryAt_0 18 rfl rfl)
theorem dX0_entryAt_19 : decode cX0_entryAt 19 = .ok (.iconst 4, 1) := dk_7 (dk_at dksX0_entryAt_0 19 rfl rfl)
theorem dX0_entryAt_20 : decode cX0_entryAt 20 = .ok (.invokestatic 12, 3) := dk_184 0 12 (dk_at dksX0_entryAt_0 20 rfl rfl)
theorem dX0_entryAt_23 : decode cX0_entryAt 23 = .ok (.ifCond .ne 5, 3) := dk_154 0 5 (dk_at dksX0_entryAt_1 0 rfl rfl)
theorem dX0_entryAt_26 : decode cX0_entryAt 26 = .ok (.iconst (-1), 1) := dk_2 (dk_at dksX0_entryAt_1 3 rfl rfl)
theorem dX0_entryAt_27 : decode cX0_entryAt 27 = .ok (.ireturn, 1) := dk_172 (dk_at dksX0_entryAt_1 4 rfl rfl)
theorem dX0_entryAt_28 : decode cX0_entryAt 28 = .ok (.aload_n 0, 1) := dk_42 (dk_at dksX0_entryAt_1 5 rfl rfl)
theorem dX0_entryAt_29 : decode cX0_entryAt 29 = .ok (.getfield 34, 3) := dk_180 0 34 (dk_at dksX0_entryAt_1 6 rfl rfl)
theorem dX0_entryAt_32 : decode cX0_entryAt 32 = .ok (.getfield 71, 3) := dk_180 0 71 (dk_at dksX0_entryAt_1 9 rfl rfl)
theorem dX0_entryAt_35 : decode cX0_entryAt 35 = .ok (.iload_n 1, 1) := dk_27 (dk_at dksX0_entryAt_1 12 rfl rfl)
theorem dX0_entryAt_36 : decode cX0_entryAt 36 = .ok (.aaload, 1) := dk_50 (dk_at dksX0_entryAt_1 13 rfl rfl)
theorem dX0_entryAt_37 : decode cX0_entryAt 37 = .ok (.astore 4, 2) := dk_58 4 (dk_at dksX0_entryAt_1 14 rfl rfl)
theorem dX0_entryAt_39 : decode cX0_entryAt 39 = .ok (.aload 4, 2) := dk_25 4 (dk_at dksX0_entryAt_1 16 rfl rfl)
theorem dX0_entryAt_41 : decode cX0_entryAt 41 = .ok (.iload_n 2, 1) := dk_28 (dk_at dksX0_entryAt_1 18 rfl rfl)
theorem dX0_entryAt_42 : decode cX0_entryAt 42 = .ok (.invokevirtual 241, 3) := dk_182 0 241 (dk_at dksX0_entryAt_1 19 rfl rfl)
theorem dX0_entryAt_45 : decode cX0_entryAt 45 = .ok (.ifCond .eq 13, 3) := dk_153 0 13 (dk_at dksX0_entryAt_2 0 rfl rfl)
theorem dX0_entryAt_48 : decode cX0_entryAt 48 = .ok (.aload 4, 2) := dk_25 4 (dk_at dksX0_entryAt_2 3 rfl rfl)
theorem dX0_entryAt_50 : decode cX0_entryAt 50 = .ok (.iload_n 2, 1) := dk_28 (dk_at dksX0_entryAt_2 5 rfl rfl)
theorem dX0_entryAt_51 : decode cX0_entryAt 51 = .ok (.iload_n 3, 1) := dk_29 (dk_at dksX0_entryAt_2 6 rfl rfl)
theorem dX0_entryAt_52 : decode cX0_entryAt 52 = .ok (.invokestatic 244, 3) := dk_184 0 244 (dk_at dksX0_entryAt_2 7 rfl rfl)
theorem dX0_entryAt_55 : decode cX0_entryAt 55 = .ok (.goto 5, 3) := dk_167 0 5 (dk_at dksX0_entryAt_2 10 rfl rfl)
theorem dX0_entryAt_58 : decode cX0_entryAt 58 = .ok (.bipush (-2), 2) := dk_16 254 (dk_at dksX0_entryAt_2 13 rfl rfl)
theorem dX0_entryAt_60 : decode cX0_entryAt 60 = .ok (.ireturn, 1) := dk_172 (dk_at dksX0_entryAt_2 15 rfl rfl)
abbrev cX0_partOf : ByteArray := prog_1_method_25_code
def yX0_partOf : MethodName := ⟨RX0, "partOf", "(LTermLog$Node;II)I"⟩
def dkwX0_partOf_2 : List UInt8 := [167, 0, 9, 42, 180, 0, 238, 29, 46, 172]
abbrev dktX0_partOf_2 : List UInt8 := dkwX0_partOf_2 ++ []
def dkwX0_partOf_1 : List UInt8 := [160, 0, 12, 42, 180, 0, 232, 29, 46, 167, 0, 23, 28, 5, 160, 0, 12, 42, 180, 0, 235, 29, 46]
abbrev dktX0_partOf_1 : List UInt8 := dkwX0_partOf_1 ++ dktX0_partOf_2
def dkwX0_partOf_0 : List UInt8 := [27, 42, 180, 0, 100, 100, 4, 100, 62, 28, 154, 0, 12, 42, 180, 0, 229, 29, 46, 167, 0, 37, 28, 4]
abbrev dktX0_partOf_0 : List UInt8 := dkwX0_partOf_0 ++ dktX0_partOf_1
theorem dksX0_partOf_0 : cX0_partOf.data.toList.drop 0 = dktX0_partOf_0 := by decide +kernel
theorem dksX0_partOf_1 : cX0_partOf.data.toList.drop 24 = dktX0_partOf_1 := dk_seg dksX0_partOf_0 24 rfl rfl
theorem dksX0_partOf_2 : cX0_partOf.data.toList.drop 47 = dktX0_partOf_2 := dk_seg dksX0_partOf_1 23 rfl rfl
theorem dX0_partOf_0 : decode cX0_partOf 0 = .ok (.iload_n 1, 1) := dk_27 (dk_at dksX0_partOf_0 0 rfl rfl)
theorem dX0_partOf_1 : decode cX0_partOf 1 = .ok (.aload_n 0, 1) := dk_42 (dk_at dksX0_partOf_0 1 rfl rfl)
theorem dX0_partOf_2 : decode cX0_partOf 2 = .ok (.getfield 100, 3) := dk_180 0 100 (dk_at dksX0_partOf_0 2 rfl rfl)
theorem dX0_partOf_5 : decode cX0_partOf 5 = .ok (.isub, 1) := dk_100 (dk_at dksX0_partOf_0 5 rfl rfl)
theorem dX0_partOf_6 : decode cX0_partOf 6 = .ok (.iconst 1, 1) := dk_4 (dk_at dksX0_partOf_0 6 rfl rfl)
theorem dX0_partOf_7 : decode cX0_partOf 7 = .ok (.isub, 1) := dk_100 (dk_at dksX0_partOf_0 7 rfl rfl)
theorem dX0_partOf_8 : decode cX0_partOf 8 = .ok (.istore_n 3, 1) := dk_62 (dk_at dksX0_partOf_0 8 rfl rfl)
theorem dX0_partOf_9 : decode cX0_partOf 9 = .ok (.iload_n 2, 1) := dk_28 (dk_at dksX0_partOf_0 9 rfl rfl)
theorem dX0_partOf_10 : decode cX0_partOf 10 = .ok (.ifCond .ne 12, 3) := dk_154 0 12 (dk_at dksX0_partOf_0 10 rfl rfl)
theorem dX0_partOf_13 : decode cX0_partOf 13 = .ok (.aload_n 0, 1) := dk_42 (dk_at dksX0_partOf_0 13 rfl rfl)
theorem dX0_partOf_14 : decode cX0_partOf 14 = .ok (.getfield 229, 3) := dk_180 0 229 (dk_at dksX0_partOf_0 14 rfl rfl)
theorem dX0_partOf_17 : decode cX0_partOf 17 = .ok (.iload_n 3, 1) := dk_29 (dk_at dksX0_partOf_0 17 rfl rfl)
theorem dX0_partOf_18 : decode cX0_partOf 18 = .ok (.iaload, 1) := dk_46 (dk_at dksX0_partOf_0 18 rfl rfl)
theorem dX0_partOf_19 : decode cX0_partOf 19 = .ok (.goto 37, 3) := dk_167 0 37 (dk_at dksX0_partOf_0 19 rfl rfl)
theorem dX0_partOf_22 : decode cX0_partOf 22 = .ok (.iload_n 2, 1) := dk_28 (dk_at dksX0_partOf_0 22 rfl rfl)
theorem dX0_partOf_23 : decode cX0_partOf 23 = .ok (.iconst 1, 1) := dk_4 (dk_at dksX0_partOf_0 23 rfl rfl)
theorem dX0_partOf_24 : decode cX0_partOf 24 = .ok (.if_icmp .ne 12, 3) := dk_160 0 12 (dk_at dksX0_partOf_1 0 rfl rfl)
theorem dX0_partOf_27 : decode cX0_partOf 27 = .ok (.aload_n 0, 1) := dk_42 (dk_at dksX0_partOf_1 3 rfl rfl)
theorem dX0_partOf_28 : decode cX0_partOf 28 = .ok (.getfield 232, 3) := dk_180 0 232 (dk_at dksX0_partOf_1 4 rfl rfl)
theorem dX0_partOf_31 : decode cX0_partOf 31 = .ok (.iload_n 3, 1) := dk_29 (dk_at dksX0_partOf_1 7 rfl rfl)
theorem dX0_partOf_32 : decode cX0_partOf 32 = .ok (.iaload, 1) := dk_46 (dk_at dksX0_partOf_1 8 rfl rfl)
theorem dX0_partOf_33 : decode cX0_partOf 33 = .ok (.goto 23, 3) := dk_167 0 23 (dk_at dksX0_partOf_1 9 rfl rfl)
theorem dX0_partOf_36 : decode cX0_partOf 36 = .ok (.iload_n 2, 1) := dk_28 (dk_at dksX0_partOf_1 12 rfl rfl)
theorem dX0_partOf_37 : decode cX0_partOf 37 = .ok (.iconst 2, 1) := dk_5 (dk_at dksX0_partOf_1 13 rfl rfl)
theorem dX0_partOf_38 : decode cX0_partOf 38 = .ok (.if_icmp .ne 12, 3) := dk_160 0 12 (dk_at dksX0_partOf_1 14 rfl rfl)
theorem dX0_partOf_41 : decode cX0_partOf 41 = .ok (.aload_n 0, 1) := dk_42 (dk_at dksX0_partOf_1 17 rfl rfl)
theorem dX0_partOf_42 : decode cX0_partOf 42 = .ok (.getfield 235, 3) := dk_180 0 235 (dk_at dksX0_partOf_1 18 rfl rfl)
theorem dX0_partOf_45 : decode cX0_partOf 45 = .ok (.iload_n 3, 1) := dk_29 (dk_at dksX0_partOf_1 21 rfl rfl)
theorem dX0_partOf_46 : decode cX0_partOf 46 = .ok (.iaload, 1) := dk_46 (dk_at dksX0_partOf_1 22 rfl rfl)
theorem dX0_partOf_47 : decode cX0_partOf 47 = .ok (.goto 9, 3) := dk_167 0 9 (dk_at dksX0_partOf_2 0 rfl rfl)
theorem dX0_partOf_50 : decode cX0_partOf 50 = .ok (.aload_n 0, 1) := dk_42 (dk_at dksX0_partOf_2 3 rfl rfl)
theorem dX0_partOf_51 : decode cX0_partOf 51 = .ok (.getfield 238, 3) := dk_180 0 238 (dk_at dksX0_partOf_2 4 rfl rfl)
theorem dX0_partOf_54 : decode cX0_partOf 54 = .ok (.iload_n 3, 1) := dk_29 (dk_at dksX0_partOf_2 7 rfl rfl)
theorem dX0_partOf_55 : decode cX0_partOf 55 = .ok (.iaload, 1) := dk_46 (dk_at dksX0_partOf_2 8 rfl rfl)
theorem dX0_partOf_56 : decode cX0_partOf 56 = .ok (.ireturn, 1) := dk_172 (dk_at dksX0_partOf_2 9 rfl rfl)
abbrev cX0_keyOf : ByteArray := prog_1_method_27_code
def yX0_keyOf : MethodName := ⟨RX0, "keyOf", "(II)I"⟩
def dkwX0_keyOf_2 : List UInt8 := [45, 180, 0, 248, 28, 16, 10, 100, 46, 167, 0, 13, 45, 45, 180, 0, 251, 28, 46, 184, 0, 213, 172]
abbrev dktX0_keyOf_2 : List UInt8 := dkwX0_keyOf_2 ++ []
def dkwX0_keyOf_1 : List UInt8 := [184, 0, 12, 154, 0, 5, 2, 172, 42, 180, 0, 34, 180, 0, 71, 27, 50, 78, 28, 16, 10, 161, 0, 15]
abbrev dktX0_keyOf_1 : List UInt8 := dkwX0_keyOf_1 ++ dktX0_keyOf_2
def dkwX0_keyOf_0 : List UInt8 := [27, 184, 0, 67, 153, 0, 24, 28, 16, 8, 184, 0, 12, 154, 0, 17, 28, 16, 10, 100, 16, 8]
abbrev dktX0_keyOf_0 : List UInt8 := dkwX0_keyOf_0 ++ dktX0_keyOf_1
theorem dksX0_keyOf_0 : cX0_keyOf.data.toList.drop 0 = dktX0_keyOf_0 := by decide +kernel
theorem dksX0_keyOf_1 : cX0_keyOf.data.toList.drop 22 = dktX0_keyOf_1 := dk_seg dksX0_keyOf_0 22 rfl rfl
theorem dksX0_keyOf_2 : cX0_keyOf.data.toList.drop 46 = dktX0_keyOf_2 := dk_seg dksX0_keyOf_1 24 rfl rfl
theorem dX0_keyOf_0 : decode cX0_keyOf 0 = .ok (.iload_n 1, 1) := dk_27 (dk_at dksX0_keyOf_0 0 rfl rfl)
theorem dX0_keyOf_1 : decode cX0_keyOf 1 = .ok (.invokestatic 67, 3) := dk_184 0 67 (dk_at dksX0_keyOf_0 1 rfl rfl)
theorem dX0_keyOf_4 : decode cX0_keyOf 4 = .ok (.ifCond .eq 24, 3) := dk_153 0 24 (dk_at dksX0_keyOf_0 4 rfl rfl)
theorem dX0_keyOf_7 : decode cX0_keyOf 7 = .ok (.iload_n 2, 1) := dk_28 (dk_at dksX0_keyOf_0 7 rfl rfl)
theorem dX0_keyOf_8 : decode cX0_keyOf 8 = .ok (.bipush 8, 2) := dk_16 8 (dk_at dksX0_keyOf_0 8 rfl rfl)
theorem dX0_keyOf_10 : decode cX0_keyOf 10 = .ok (.invokestatic 12, 3) := dk_184 0 12 (dk_at dksX0_keyOf_0 10 rfl rfl)
theorem dX0_keyOf_13 : decode cX0_keyOf 13 = .ok (.ifCond .ne 17, 3) := dk_154 0 17 (dk_at dksX0_keyOf_0 13 rfl rfl)
theorem dX0_keyOf_16 : decode cX0_keyOf 16 = .ok (.iload_n 2, 1) := dk_28 (dk_at dksX0_keyOf_0 16 rfl rfl)
theorem dX0_keyOf_17 : decode cX0_keyOf 17 = .ok (.bipush 10, 2) := dk_16 10 (dk_at dksX0_keyOf_0 17 rfl rfl)
theorem dX0_keyOf_19 : decode cX0_keyOf 19 = .ok (.isub, 1) := dk_100 (dk_at dksX0_keyOf_0 19 rfl rfl)
theorem dX0_keyOf_20 : decode cX0_keyOf 20 = .ok (.bipush 8, 2) := dk_16 8 (dk_at dksX0_keyOf_0 20 rfl rfl)
theorem dX0_keyOf_22 : decode cX0_keyOf 22 = .ok (.invokestatic 12, 3) := dk_184 0 12 (dk_at dksX0_keyOf_1 0 rfl rfl)
theorem dX0_keyOf_25 : decode cX0_keyOf 25 = .ok (.ifCond .ne 5, 3) := dk_154 0 5 (dk_at dksX0_keyOf_1 3 rfl rfl)
theorem dX0_keyOf_28 : decode cX0_keyOf 28 = .ok (.iconst (-1), 1) := dk_2 (dk_at dksX0_keyOf_1 6 rfl rfl)
theorem dX0_keyOf_29 : decode cX0_keyOf 29 = .ok (.ireturn, 1) := dk_172 (dk_at dksX0_keyOf_1 7 rfl rfl)
theorem dX0_keyOf_30 : decode cX0_keyOf 30 = .ok (.aload_n 0, 1) := dk_42 (dk_at dksX0_keyOf_1 8 rfl rfl)
theorem dX0_keyOf_31 : decode cX0_keyOf 31 = .ok (.getfield 34, 3) := dk_180 0 34 (dk_at dksX0_keyOf_1 9 rfl rfl)
theorem dX0_keyOf_34 : decode cX0_keyOf 34 = .ok (.getfield 71, 3) := dk_180 0 71 (dk_at dksX0_keyOf_1 12 rfl rfl)
theorem dX0_keyOf_37 : decode cX0_keyOf 37 = .ok (.iload_n 1, 1) := dk_27 (dk_at dksX0_keyOf_1 15 rfl rfl)
theorem dX0_keyOf_38 : decode cX0_keyOf 38 = .ok (.aaload, 1) := dk_50 (dk_at dksX0_keyOf_1 16 rfl rfl)
theorem dX0_keyOf_39 : decode cX0_keyOf 39 = .ok (.astore_n 3, 1) := dk_78 (dk_at dksX0_keyOf_1 17 rfl rfl)
theorem dX0_keyOf_40 : decode cX0_keyOf 40 = .ok (.iload_n 2, 1) := dk_28 (dk_at dksX0_keyOf_1 18 rfl rfl)
theorem dX0_keyOf_41 : decode cX0_keyOf 41 = .ok (.bipush 10, 2) := dk_16 10 (dk_at dksX0_keyOf_1 19 rfl rfl)
theorem dX0_keyOf_43 : decode cX0_keyOf 43 = .ok (.if_icmp .lt 15, 3) := dk_161 0 15 (dk_at dksX0_keyOf_1 21 rfl rfl)
theorem dX0_keyOf_46 : decode cX0_keyOf 46 = .ok (.aload_n 3, 1) := dk_45 (dk_at dksX0_keyOf_2 0 rfl rfl)
theorem dX0_keyOf_47 : decode cX0_keyOf 47 = .ok (.getfield 248, 3) := dk_180 0 248 (dk_at dksX0_keyOf_2 1 rfl rfl)
theorem dX0_keyOf_50 : decode cX0_keyOf 50 = .ok (.iload_n 2, 1) := dk_28 (dk_at dksX0_keyOf_2 4 rfl rfl)
theorem dX0_keyOf_51 : decode cX0_keyOf 51 = .ok (.bipush 10, 2) := dk_16 10 (dk_at dksX0_keyOf_2 5 rfl rfl)
theorem dX0_keyOf_53 : decode cX0_keyOf 53 = .ok (.isub, 1) := dk_100 (dk_at dksX0_keyOf_2 7 rfl rfl)
theorem dX0_keyOf_54 : decode cX0_keyOf 54 = .ok (.iaload, 1) := dk_46 (dk_at dksX0_keyOf_2 8 rfl rfl)
theorem dX0_keyOf_55 : decode cX0_keyOf 55 = .ok (.goto 13, 3) := dk_167 0 13 (dk_at dksX0_keyOf_2 9 rfl rfl)
theorem dX0_keyOf_58 : decode cX0_keyOf 58 = .ok (.aload_n 3, 1) := dk_45 (dk_at dksX0_keyOf_2 12 rfl rfl)
theorem dX0_keyOf_59 : decode cX0_keyOf 59 = .ok (.aload_n 3, 1) := dk_45 (dk_at dksX0_keyOf_2 13 rfl rfl)
theorem dX0_keyOf_60 : decode cX0_keyOf 60 = .ok (.getfield 251, 3) := dk_180 0 251 (dk_at dksX0_keyOf_2 14 rfl rfl)
theorem dX0_keyOf_63 : decode cX0_keyOf 63 = .ok (.iload_n 2, 1) := dk_28 (dk_at dksX0_keyOf_2 17 rfl rfl)
theorem dX0_keyOf_64 : decode cX0_keyOf 64 = .ok (.iaload, 1) := dk_46 (dk_at dksX0_keyOf_2 18 rfl rfl)
theorem dX0_keyOf_65 : decode cX0_keyOf 65 = .ok (.invokestatic 213, 3) := dk_184 0 213 (dk_at dksX0_keyOf_2 19 rfl rfl)
theorem dX0_keyOf_68 : decode cX0_keyOf 68 = .ok (.ireturn, 1) := dk_172 (dk_at dksX0_keyOf_2 22 rfl rfl)
abbrev cX0_about : ByteArray := prog_1_method_28_code
def yX0_about : MethodName := ⟨RX0, "about", "(III)I"⟩
def dkwX0_about_3 : List UInt8 := [180, 1, 1, 28, 46, 167, 0, 10, 25, 4, 180, 1, 4, 28, 46, 172]
abbrev dktX0_about_3 : List UInt8 := dkwX0_about_3 ++ []
def dkwX0_about_2 : List UInt8 := [58, 4, 29, 154, 0, 13, 25, 4, 180, 0, 254, 28, 46, 167, 0, 25, 29, 4, 160, 0, 13, 25, 4]
abbrev dktX0_about_2 : List UInt8 := dkwX0_about_2 ++ dktX0_about_3
def dkwX0_about_1 : List UInt8 := [42, 180, 0, 34, 27, 182, 0, 106, 154, 0, 6, 16, 254, 172, 42, 180, 0, 34, 180, 0, 71, 27, 50]
abbrev dktX0_about_1 : List UInt8 := dkwX0_about_1 ++ dktX0_about_2
def dkwX0_about_0 : List UInt8 := [27, 184, 0, 67, 153, 0, 18, 28, 184, 0, 67, 153, 0, 11, 29, 6, 184, 0, 12, 154, 0, 5, 2, 172]
abbrev dktX0_about_0 : List UInt8 := dkwX0_about_0 ++ dktX0_about_1
theorem dksX0_about_0 : cX0_about.data.toList.drop 0 = dktX0_about_0 := by decide +kernel
theorem dksX0_about_1 : cX0_about.data.toList.drop 24 = dktX0_about_1 := dk_seg dksX0_about_0 24 rfl rfl
theorem dksX0_about_2 : cX0_about.data.toList.drop 47 = dktX0_about_2 := dk_seg dksX0_about_1 23 rfl rfl
theorem dksX0_about_3 : cX0_about.data.toList.drop 70 = dktX0_about_3 := dk_seg dksX0_about_2 23 rfl rfl
theorem dX0_about_0 : decode cX0_about 0 = .ok (.iload_n 1, 1) := dk_27 (dk_at dksX0_about_0 0 rfl rfl)
theorem dX0_about_1 : decode cX0_about 1 = .ok (.invokestatic 67, 3) := dk_184 0 67 (dk_at dksX0_about_0 1 rfl rfl)
theorem dX0_about_4 : decode cX0_about 4 = .ok (.ifCond .eq 18, 3) := dk_153 0 18 (dk_at dksX0_about_0 4 rfl rfl)
theorem dX0_about_7 : decode cX0_about 7 = .ok (.iload_n 2, 1) := dk_28 (dk_at dksX0_about_0 7 rfl rfl)
theorem dX0_about_8 : decode cX0_about 8 = .ok (.invokestatic 67, 3) := dk_184 0 67 (dk_at dksX0_about_0 8 rfl rfl)
theorem dX0_about_11 : decode cX0_about 11 = .ok (.ifCond .eq 11, 3) := dk_153 0 11 (dk_at dksX0_about_0 11 rfl rfl)
theorem dX0_about_14 : decode cX0_about 14 = .ok (.iload_n 3, 1) := dk_29 (dk_at dksX0_about_0 14 rfl rfl)
theorem dX0_about_15 : decode cX0_about 15 = .ok (.iconst 3, 1) := dk_6 (dk_at dksX0_about_0 15 rfl rfl)
theorem dX0_about_16 : decode cX0_about 16 = .ok (.invokestatic 12, 3) := dk_184 0 12 (dk_at dksX0_about_0 16 rfl rfl)
theorem dX0_about_19 : decode cX0_about 19 = .ok (.ifCond .ne 5, 3) := dk_154 0 5 (dk_at dksX0_about_0 19 rfl rfl)
theorem dX0_about_22 : decode cX0_about 22 = .ok (.iconst (-1), 1) := dk_2 (dk_at dksX0_about_0 22 rfl rfl)
theorem dX0_about_23 : decode cX0_about 23 = .ok (.ireturn, 1) := dk_172 (dk_at dksX0_about_0 23 rfl rfl)
theorem dX0_about_24 : decode cX0_about 24 = .ok (.aload_n 0, 1) := dk_42 (dk_at dksX0_about_1 0 rfl rfl)
theorem dX0_about_25 : decode cX0_about 25 = .ok (.getfield 34, 3) := dk_180 0 34 (dk_at dksX0_about_1 1 rfl rfl)
theorem dX0_about_28 : decode cX0_about 28 = .ok (.iload_n 1, 1) := dk_27 (dk_at dksX0_about_1 4 rfl rfl)
theorem dX0_about_29 : decode cX0_about 29 = .ok (.invokevirtual 106, 3) := dk_182 0 106 (dk_at dksX0_about_1 5 rfl rfl)
theorem dX0_about_32 : decode cX0_about 32 = .ok (.ifCond .ne 6, 3) := dk_154 0 6 (dk_at dksX0_about_1 8 rfl rfl)
theorem dX0_about_35 : decode cX0_about 35 = .ok (.bipush (-2), 2) := dk_16 254 (dk_at dksX0_about_1 11 rfl rfl)
theorem dX0_about_37 : decode cX0_about 37 = .ok (.ireturn, 1) := dk_172 (dk_at dksX0_about_1 13 rfl rfl)
theorem dX0_about_38 : decode cX0_about 38 = .ok (.aload_n 0, 1) := dk_42 (dk_at dksX0_about_1 14 rfl rfl)
theorem dX0_about_39 : decode cX0_about 39 = .ok (.getfield 34, 3) := dk_180 0 34 (dk_at dksX0_about_1 15 rfl rfl)
theorem dX0_about_42 : decode cX0_about 42 = .ok (.getfield 71, 3) := dk_180 0 71 (dk_at dksX0_about_1 18 rfl rfl)
theorem dX0_about_45 : decode cX0_about 45 = .ok (.iload_n 1, 1) := dk_27 (dk_at dksX0_about_1 21 rfl rfl)
theorem dX0_about_46 : decode cX0_about 46 = .ok (.aaload, 1) := dk_50 (dk_at dksX0_about_1 22 rfl rfl)
theorem dX0_about_47 : decode cX0_about 47 = .ok (.astore 4, 2) := dk_58 4 (dk_at dksX0_about_2 0 rfl rfl)
theorem dX0_about_49 : decode cX0_about 49 = .ok (.iload_n 3, 1) := dk_29 (dk_at dksX0_about_2 2 rfl rfl)
theorem dX0_about_50 : decode cX0_about 50 = .ok (.ifCond .ne 13, 3) := dk_154 0 13 (dk_at dksX0_about_2 3 rfl rfl)
theorem dX0_about_53 : decode cX0_about 53 = .ok (.aload 4, 2) := dk_25 4 (dk_at dksX0_about_2 6 rfl rfl)
theorem dX0_about_55 : decode cX0_about 55 = .ok (.getfield 254, 3) := dk_180 0 254 (dk_at dksX0_about_2 8 rfl rfl)
theorem dX0_about_58 : decode cX0_about 58 = .ok (.iload_n 2, 1) := dk_28 (dk_at dksX0_about_2 11 rfl rfl)
theorem dX0_about_59 : decode cX0_about 59 = .ok (.iaload, 1) := dk_46 (dk_at dksX0_about_2 12 rfl rfl)
theorem dX0_about_60 : decode cX0_about 60 = .ok (.goto 25, 3) := dk_167 0 25 (dk_at dksX0_about_2 13 rfl rfl)
theorem dX0_about_63 : decode cX0_about 63 = .ok (.iload_n 3, 1) := dk_29 (dk_at dksX0_about_2 16 rfl rfl)
theorem dX0_about_64 : decode cX0_about 64 = .ok (.iconst 1, 1) := dk_4 (dk_at dksX0_about_2 17 rfl rfl)
theorem dX0_about_65 : decode cX0_about 65 = .ok (.if_icmp .ne 13, 3) := dk_160 0 13 (dk_at dksX0_about_2 18 rfl rfl)
theorem dX0_about_68 : decode cX0_about 68 = .ok (.aload 4, 2) := dk_25 4 (dk_at dksX0_about_2 21 rfl rfl)
theorem dX0_about_70 : decode cX0_about 70 = .ok (.getfield 257, 3) := dk_180 1 1 (dk_at dksX0_about_3 0 rfl rfl)
theorem dX0_about_73 : decode cX0_about 73 = .ok (.iload_n 2, 1) := dk_28 (dk_at dksX0_about_3 3 rfl rfl)
theorem dX0_about_74 : decode cX0_about 74 = .ok (.iaload, 1) := dk_46 (dk_at dksX0_about_3 4 rfl rfl)
theorem dX0_about_75 : decode cX0_about 75 = .ok (.goto 10, 3) := dk_167 0 10 (dk_at dksX0_about_3 5 rfl rfl)
theorem dX0_about_78 : decode cX0_about 78 = .ok (.aload 4, 2) := dk_25 4 (dk_at dksX0_about_3 8 rfl rfl)
theorem dX0_about_80 : decode cX0_about 80 = .ok (.getfield 260, 3) := dk_180 1 4 (dk_at dksX0_about_3 10 rfl rfl)
theorem dX0_about_83 : decode cX0_about 83 = .ok (.iload_n 2, 1) := dk_28 (dk_at dksX0_about_3 13 rfl rfl)
theorem dX0_about_84 : decode cX0_about 84 = .ok (.iaload, 1) := dk_46 (dk_at dksX0_about_3 14 rfl rfl)
theorem dX0_about_85 : decode cX0_about 85 = .ok (.ireturn, 1) := dk_172 (dk_at dksX0_about_3 15 rfl rfl)
abbrev cX0_message : ByteArray := prog_1_method_29_code
def yX0_message : MethodName := ⟨RX0, "message", "(II)I"⟩
def dkwX0_message_2 : List UInt8 := [16, 9, 46, 172]
abbrev dktX0_message_2 : List UInt8 := dkwX0_message_2 ++ []
def dkwX0_message_1 : List UInt8 := [161, 0, 6, 16, 252, 172, 42, 180, 0, 34, 180, 1, 7, 27, 50, 28, 8, 162, 0, 7, 28, 167, 0, 5]
abbrev dktX0_message_1 : List UInt8 := dkwX0_message_1 ++ dktX0_message_2
def dkwX0_message_0 : List UInt8 := [27, 155, 0, 12, 28, 16, 6, 184, 0, 12, 154, 0, 5, 2, 172, 27, 42, 180, 0, 34, 180, 0, 201]
abbrev dktX0_message_0 : List UInt8 := dkwX0_message_0 ++ dktX0_message_1
theorem dksX0_message_0 : cX0_message.data.toList.drop 0 = dktX0_message_0 := by decide +kernel
theorem dksX0_message_1 : cX0_message.data.toList.drop 23 = dktX0_message_1 := dk_seg dksX0_message_0 23 rfl rfl
theorem dksX0_message_2 : cX0_message.data.toList.drop 47 = dktX0_message_2 := dk_seg dksX0_message_1 24 rfl rfl
theorem dX0_message_0 : decode cX0_message 0 = .ok (.iload_n 1, 1) := dk_27 (dk_at dksX0_message_0 0 rfl rfl)
theorem dX0_message_1 : decode cX0_message 1 = .ok (.ifCond .lt 12, 3) := dk_155 0 12 (dk_at dksX0_message_0 1 rfl rfl)
theorem dX0_message_4 : decode cX0_message 4 = .ok (.iload_n 2, 1) := dk_28 (dk_at dksX0_message_0 4 rfl rfl)
theorem dX0_message_5 : decode cX0_message 5 = .ok (.bipush 6, 2) := dk_16 6 (dk_at dksX0_message_0 5 rfl rfl)
theorem dX0_message_7 : decode cX0_message 7 = .ok (.invokestatic 12, 3) := dk_184 0 12 (dk_at dksX0_message_0 7 rfl rfl)
theorem dX0_message_10 : decode cX0_message 10 = .ok (.ifCond .ne 5, 3) := dk_154 0 5 (dk_at dksX0_message_0 10 rfl rfl)
theorem dX0_message_13 : decode cX0_message 13 = .ok (.iconst (-1), 1) := dk_2 (dk_at dksX0_message_0 13 rfl rfl)
theorem dX0_message_14 : decode cX0_message 14 = .ok (.ireturn, 1) := dk_172 (dk_at dksX0_message_0 14 rfl rfl)
theorem dX0_message_15 : decode cX0_message 15 = .ok (.iload_n 1, 1) := dk_27 (dk_at dksX0_message_0 15 rfl rfl)
theorem dX0_message_16 : decode cX0_message 16 = .ok (.aload_n 0, 1) := dk_42 (dk_at dksX0_message_0 16 rfl rfl)
theorem dX0_message_17 : decode cX0_message 17 = .ok (.getfield 34, 3) := dk_180 0 34 (dk_at dksX0_message_0 17 rfl rfl)
theorem dX0_message_20 : decode cX0_message 20 = .ok (.getfield 201, 3) := dk_180 0 201 (dk_at dksX0_message_0 20 rfl rfl)
theorem dX0_message_23 : decode cX0_message 23 = .ok (.if_icmp .lt 6, 3) := dk_161 0 6 (dk_at dksX0_message_1 0 rfl rfl)
theorem dX0_message_26 : decode cX0_message 26 = .ok (.bipush (-4), 2) := dk_16 252 (dk_at dksX0_message_1 3 rfl rfl)
theorem dX0_message_28 : decode cX0_message 28 = .ok (.ireturn, 1) := dk_172 (dk_at dksX0_message_1 5 rfl rfl)
theorem dX0_message_29 : decode cX0_message 29 = .ok (.aload_n 0, 1) := dk_42 (dk_at dksX0_message_1 6 rfl rfl)
theorem dX0_message_30 : decode cX0_message 30 = .ok (.getfield 34, 3) := dk_180 0 34 (dk_at dksX0_message_1 7 rfl rfl)
theorem dX0_message_33 : decode cX0_message 33 = .ok (.getfield 263, 3) := dk_180 1 7 (dk_at dksX0_message_1 10 rfl rfl)
theorem dX0_message_36 : decode cX0_message 36 = .ok (.iload_n 1, 1) := dk_27 (dk_at dksX0_message_1 13 rfl rfl)
theorem dX0_message_37 : decode cX0_message 37 = .ok (.aaload, 1) := dk_50 (dk_at dksX0_message_1 14 rfl rfl)
theorem dX0_message_38 : decode cX0_message 38 = .ok (.iload_n 2, 1) := dk_28 (dk_at dksX0_message_1 15 rfl rfl)
theorem dX0_message_39 : decode cX0_message 39 = .ok (.iconst 5, 1) := dk_8 (dk_at dksX0_message_1 16 rfl rfl)
theorem dX0_message_40 : decode cX0_message 40 = .ok (.if_icmp .ge 7, 3) := dk_162 0 7 (dk_at dksX0_message_1 17 rfl rfl)
theorem dX0_message_43 : decode cX0_message 43 = .ok (.iload_n 2, 1) := dk_28 (dk_at dksX0_message_1 20 rfl rfl)
theorem dX0_message_44 : decode cX0_message 44 = .ok (.goto 5, 3) := dk_167 0 5 (dk_at dksX0_message_1 21 rfl rfl)
theorem dX0_message_47 : decode cX0_message 47 = .ok (.bipush 9, 2) := dk_16 9 (dk_at dksX0_message_2 0 rfl rfl)
theorem dX0_message_49 : decode cX0_message 49 = .ok (.iaload, 1) := dk_46 (dk_at dksX0_message_2 2 rfl rfl)
theorem dX0_message_50 : decode cX0_message 50 = .ok (.ireturn, 1) := dk_172 (dk_at dksX0_message_2 3 rfl rfl)
abbrev cX0_leaderNow : ByteArray := prog_1_method_30_code
def yX0_leaderNow : MethodName := ⟨RX0, "leaderNow", "()I"⟩
def dkwX0_leaderNow_0 : List UInt8 := [42, 180, 0, 34, 182, 0, 198, 172]
abbrev dktX0_leaderNow_0 : List UInt8 := dkwX0_leaderNow_0 ++ []
theorem dksX0_leaderNow_0 : cX0_leaderNow.data.toList.drop 0 = dktX0_leaderNow_0 := by decide +kernel
theorem dX0_leaderNow_0 : decode cX0_leaderNow 0 = .ok (.aload_n 0, 1) := dk_42 (dk_at dksX0_leaderNow_0 0 rfl rfl)
theorem dX0_leaderNow_1 : decode cX0_leaderNow 1 = .ok (.getfield 34, 3) := dk_180 0 34 (dk_at dksX0_leaderNow_0 1 rfl rfl)
theorem dX0_leaderNow_4 : decode cX0_leaderNow 4 = .ok (.invokevirtual 198, 3) := dk_182 0 198 (dk_at dksX0_leaderNow_0 4 rfl rfl)
theorem dX0_leaderNow_7 : decode cX0_leaderNow 7 = .ok (.ireturn, 1) := dk_172 (dk_at dksX0_leaderNow_0 7 rfl rfl)
abbrev cX0_heldAt : ByteArray := prog_1_method_31_code
def yX0_heldAt : MethodName := ⟨RX0, "heldAt", "(II)I"⟩
def dkwX0_heldAt_2 : List UInt8 := [46, 172]
abbrev dktX0_heldAt_2 : List UInt8 := dkwX0_heldAt_2 ++ []
def dkwX0_heldAt_1 : List UInt8 := [180, 0, 34, 180, 0, 147, 164, 0, 8, 16, 254, 167, 0, 14, 42, 180, 0, 34, 180, 1, 10, 27, 50, 28]
abbrev dktX0_heldAt_1 : List UInt8 := dkwX0_heldAt_1 ++ dktX0_heldAt_2
def dkwX0_heldAt_0 : List UInt8 := [27, 4, 17, 39, 15, 184, 0, 63, 153, 0, 11, 28, 7, 184, 0, 12, 154, 0, 5, 2, 172, 27, 42]
abbrev dktX0_heldAt_0 : List UInt8 := dkwX0_heldAt_0 ++ dktX0_heldAt_1
theorem dksX0_heldAt_0 : cX0_heldAt.data.toList.drop 0 = dktX0_heldAt_0 := by decide +kernel
theorem dksX0_heldAt_1 : cX0_heldAt.data.toList.drop 23 = dktX0_heldAt_1 := dk_seg dksX0_heldAt_0 23 rfl rfl
theorem dksX0_heldAt_2 : cX0_heldAt.data.toList.drop 47 = dktX0_heldAt_2 := dk_seg dksX0_heldAt_1 24 rfl rfl
theorem dX0_heldAt_0 : decode cX0_heldAt 0 = .ok (.iload_n 1, 1) := dk_27 (dk_at dksX0_heldAt_0 0 rfl rfl)
theorem dX0_heldAt_1 : decode cX0_heldAt 1 = .ok (.iconst 1, 1) := dk_4 (dk_at dksX0_heldAt_0 1 rfl rfl)
theorem dX0_heldAt_2 : decode cX0_heldAt 2 = .ok (.sipush 9999, 3) := dk_17 39 15 (dk_at dksX0_heldAt_0 2 rfl rfl)
theorem dX0_heldAt_5 : decode cX0_heldAt 5 = .ok (.invokestatic 63, 3) := dk_184 0 63 (dk_at dksX0_heldAt_0 5 rfl rfl)
theorem dX0_heldAt_8 : decode cX0_heldAt 8 = .ok (.ifCond .eq 11, 3) := dk_153 0 11 (dk_at dksX0_heldAt_0 8 rfl rfl)
theorem dX0_heldAt_11 : decode cX0_heldAt 11 = .ok (.iload_n 2, 1) := dk_28 (dk_at dksX0_heldAt_0 11 rfl rfl)
theorem dX0_heldAt_12 : decode cX0_heldAt 12 = .ok (.iconst 4, 1) := dk_7 (dk_at dksX0_heldAt_0 12 rfl rfl)
theorem dX0_heldAt_13 : decode cX0_heldAt 13 = .ok (.invokestatic 12, 3) := dk_184 0 12 (dk_at dksX0_heldAt_0 13 rfl rfl)
theorem dX0_heldAt_16 : decode cX0_heldAt 16 = .ok (.ifCond .ne 5, 3) := dk_154 0 5 (dk_at dksX0_heldAt_0 16 rfl rfl)
theorem dX0_heldAt_19 : decode cX0_heldAt 19 = .ok (.iconst (-1), 1) := dk_2 (dk_at dksX0_heldAt_0 19 rfl rfl)
theorem dX0_heldAt_20 : decode cX0_heldAt 20 = .ok (.ireturn, 1) := dk_172 (dk_at dksX0_heldAt_0 20 rfl rfl)
theorem dX0_heldAt_21 : decode cX0_heldAt 21 = .ok (.iload_n 1, 1) := dk_27 (dk_at dksX0_heldAt_0 21 rfl rfl)
theorem dX0_heldAt_22 : decode cX0_heldAt 22 = .ok (.aload_n 0, 1) := dk_42 (dk_at dksX0_heldAt_0 22 rfl rfl)
theorem dX0_heldAt_23 : decode cX0_heldAt 23 = .ok (.getfield 34, 3) := dk_180 0 34 (dk_at dksX0_heldAt_1 0 rfl rfl)
theorem dX0_heldAt_26 : decode cX0_heldAt 26 = .ok (.getfield 147, 3) := dk_180 0 147 (dk_at dksX0_heldAt_1 3 rfl rfl)
theorem dX0_heldAt_29 : decode cX0_heldAt 29 = .ok (.if_icmp .le 8, 3) := dk_164 0 8 (dk_at dksX0_heldAt_1 6 rfl rfl)
theorem dX0_heldAt_32 : decode cX0_heldAt 32 = .ok (.bipush (-2), 2) := dk_16 254 (dk_at dksX0_heldAt_1 9 rfl rfl)
theorem dX0_heldAt_34 : decode cX0_heldAt 34 = .ok (.goto 14, 3) := dk_167 0 14 (dk_at dksX0_heldAt_1 11 rfl rfl)
theorem dX0_heldAt_37 : decode cX0_heldAt 37 = .ok (.aload_n 0, 1) := dk_42 (dk_at dksX0_heldAt_1 14 rfl rfl)
theorem dX0_heldAt_38 : decode cX0_heldAt 38 = .ok (.getfield 34, 3) := dk_180 0 34 (dk_at dksX0_heldAt_1 15 rfl rfl)
theorem dX0_heldAt_41 : decode cX0_heldAt 41 = .ok (.getfield 266, 3) := dk_180 1 10 (dk_at dksX0_heldAt_1 18 rfl rfl)
theorem dX0_heldAt_44 : decode cX0_heldAt 44 = .ok (.iload_n 1, 1) := dk_27 (dk_at dksX0_heldAt_1 21 rfl rfl)
theorem dX0_heldAt_45 : decode cX0_heldAt 45 = .ok (.aaload, 1) := dk_50 (dk_at dksX0_heldAt_1 22 rfl rfl)
theorem dX0_heldAt_46 : decode cX0_heldAt 46 = .ok (.iload_n 2, 1) := dk_28 (dk_at dksX0_heldAt_1 23 rfl rfl)
theorem dX0_heldAt_47 : decode cX0_heldAt 47 = .ok (.iaload, 1) := dk_46 (dk_at dksX0_heldAt_2 0 rfl rfl)
theorem dX0_heldAt_48 : decode cX0_heldAt 48 = .ok (.ireturn, 1) := dk_172 (dk_at dksX0_heldAt_2 1 rfl rfl)
abbrev cX0_readIs : ByteArray := prog_1_method_32_code
def yX0_readIs : MethodName := ⟨RX0, "readIs", "(II)I"⟩
def dkwX0_readIs_3 : List UInt8 := [45, 7, 46, 172, 45, 8, 46, 172, 45, 3, 46, 172, 45, 4, 46, 172, 2, 172]
abbrev dktX0_readIs_3 : List UInt8 := dkwX0_readIs_3 ++ []
def dkwX0_readIs_2 : List UInt8 := [170, 0, 0, 0, 45, 0, 0, 0, 0, 0, 0, 0, 3, 0, 0, 0, 29, 0, 0, 0, 33, 0, 0, 0, 37, 0, 0, 0, 41]
abbrev dktX0_readIs_2 : List UInt8 := dkwX0_readIs_2 ++ dktX0_readIs_3
def dkwX0_readIs_1 : List UInt8 := [50, 78, 28]
abbrev dktX0_readIs_1 : List UInt8 := dkwX0_readIs_1 ++ dktX0_readIs_2
def dkwX0_readIs_0 : List UInt8 := [27, 42, 180, 0, 34, 180, 0, 127, 184, 0, 12, 154, 0, 5, 2, 172, 42, 180, 0, 34, 180, 0, 143, 27]
abbrev dktX0_readIs_0 : List UInt8 := dkwX0_readIs_0 ++ dktX0_readIs_1
theorem dksX0_readIs_0 : cX0_readIs.data.toList.drop 0 = dktX0_readIs_0 := by decide +kernel
theorem dksX0_readIs_1 : cX0_readIs.data.toList.drop 24 = dktX0_readIs_1 := dk_seg dksX0_readIs_0 24 rfl rfl
theorem dksX0_readIs_2 : cX0_readIs.data.toList.drop 27 = dktX0_readIs_2 := dk_seg dksX0_readIs_1 3 rfl rfl
theorem dksX0_readIs_3 : cX0_readIs.data.toList.drop 56 = dktX0_readIs_3 := dk_seg dksX0_readIs_2 29 rfl rfl
theorem dX0_readIs_0 : decode cX0_readIs 0 = .ok (.iload_n 1, 1) := dk_27 (dk_at dksX0_readIs_0 0 rfl rfl)
theorem dX0_readIs_1 : decode cX0_readIs 1 = .ok (.aload_n 0, 1) := dk_42 (dk_at dksX0_readIs_0 1 rfl rfl)
theorem dX0_readIs_2 : decode cX0_readIs 2 = .ok (.getfield 34, 3) := dk_180 0 34 (dk_at dksX0_readIs_0 2 rfl rfl)
theorem dX0_readIs_5 : decode cX0_readIs 5 = .ok (.getfield 127, 3) := dk_180 0 127 (dk_at dksX0_readIs_0 5 rfl rfl)
theorem dX0_readIs_8 : decode cX0_readIs 8 = .ok (.invokestatic 12, 3) := dk_184 0 12 (dk_at dksX0_readIs_0 8 rfl rfl)
theorem dX0_readIs_11 : decode cX0_readIs 11 = .ok (.ifCond .ne 5, 3) := dk_154 0 5 (dk_at dksX0_readIs_0 11 rfl rfl)
theorem dX0_readIs_14 : decode cX0_readIs 14 = .ok (.iconst (-1), 1) := dk_2 (dk_at dksX0_readIs_0 14 rfl rfl)
theorem dX0_readIs_15 : decode cX0_readIs 15 = .ok (.ireturn, 1) := dk_172 (dk_at dksX0_readIs_0 15 rfl rfl)
theorem dX0_readIs_16 : decode cX0_readIs 16 = .ok (.aload_n 0, 1) := dk_42 (dk_at dksX0_readIs_0 16 rfl rfl)
theorem dX0_readIs_17 : decode cX0_readIs 17 = .ok (.getfield 34, 3) := dk_180 0 34 (dk_at dksX0_readIs_0 17 rfl rfl)
theorem dX0_readIs_20 : decode cX0_readIs 20 = .ok (.getfield 143, 3) := dk_180 0 143 (dk_at dksX0_readIs_0 20 rfl rfl)
theorem dX0_readIs_23 : decode cX0_readIs 23 = .ok (.iload_n 1, 1) := dk_27 (dk_at dksX0_readIs_0 23 rfl rfl)
theorem dX0_readIs_24 : decode cX0_readIs 24 = .ok (.aaload, 1) := dk_50 (dk_at dksX0_readIs_1 0 rfl rfl)
theorem dX0_readIs_25 : decode cX0_readIs 25 = .ok (.astore_n 3, 1) := dk_78 (dk_at dksX0_readIs_1 1 rfl rfl)
theorem dX0_readIs_26 : decode cX0_readIs 26 = .ok (.iload_n 2, 1) := dk_28 (dk_at dksX0_readIs_1 2 rfl rfl)
theorem dX0_readIs_27 : decode cX0_readIs 27 = .ok (.tableswitch 45 0 3 #[29, 33, 37, 41], 29) := by decide +kernel
theorem dX0_readIs_56 : decode cX0_readIs 56 = .ok (.aload_n 3, 1) := dk_45 (dk_at dksX0_readIs_3 0 rfl rfl)
theorem dX0_readIs_57 : decode cX0_readIs 57 = .ok (.iconst 4, 1) := dk_7 (dk_at dksX0_readIs_3 1 rfl rfl)
theorem dX0_readIs_58 : decode cX0_readIs 58 = .ok (.iaload, 1) := dk_46 (dk_at dksX0_readIs_3 2 rfl rfl)
theorem dX0_readIs_59 : decode cX0_readIs 59 = .ok (.ireturn, 1) := dk_172 (dk_at dksX0_readIs_3 3 rfl rfl)
theorem dX0_readIs_60 : decode cX0_readIs 60 = .ok (.aload_n 3, 1) := dk_45 (dk_at dksX0_readIs_3 4 rfl rfl)
theorem dX0_readIs_61 : decode cX0_readIs 61 = .ok (.iconst 5, 1) := dk_8 (dk_at dksX0_readIs_3 5 rfl rfl)
theorem dX0_readIs_62 : decode cX0_readIs 62 = .ok (.iaload, 1) := dk_46 (dk_at dksX0_readIs_3 6 rfl rfl)
theorem dX0_readIs_63 : decode cX0_readIs 63 = .ok (.ireturn, 1) := dk_172 (dk_at dksX0_readIs_3 7 rfl rfl)
theorem dX0_readIs_64 : decode cX0_readIs 64 = .ok (.aload_n 3, 1) := dk_45 (dk_at dksX0_readIs_3 8 rfl rfl)
theorem dX0_readIs_65 : decode cX0_readIs 65 = .ok (.iconst 0, 1) := dk_3 (dk_at dksX0_readIs_3 9 rfl rfl)
theorem dX0_readIs_66 : decode cX0_readIs 66 = .ok (.iaload, 1) := dk_46 (dk_at dksX0_readIs_3 10 rfl rfl)
theorem dX0_readIs_67 : decode cX0_readIs 67 = .ok (.ireturn, 1) := dk_172 (dk_at dksX0_readIs_3 11 rfl rfl)
theorem dX0_readIs_68 : decode cX0_readIs 68 = .ok (.aload_n 3, 1) := dk_45 (dk_at dksX0_readIs_3 12 rfl rfl)
theorem dX0_readIs_69 : decode cX0_readIs 69 = .ok (.iconst 1, 1) := dk_4 (dk_at dksX0_readIs_3 13 rfl rfl)
theorem dX0_readIs_70 : decode cX0_readIs 70 = .ok (.iaload, 1) := dk_46 (dk_at dksX0_readIs_3 14 rfl rfl)
theorem dX0_readIs_71 : decode cX0_readIs 71 = .ok (.ireturn, 1) := dk_172 (dk_at dksX0_readIs_3 15 rfl rfl)
theorem dX0_readIs_72 : decode cX0_readIs 72 = .ok (.iconst (-1), 1) := dk_2 (dk_at dksX0_readIs_3 16 rfl rfl)
theorem dX0_readIs_73 : decode cX0_readIs 73 = .ok (.ireturn, 1) := dk_172 (dk_at dksX0_readIs_3 17 rfl rfl)
abbrev cX0_broken : ByteArray := prog_1_method_35_code
def yX0_broken : MethodName := ⟨RX0, "broken", "(I)I"⟩
def dkwX0_broken_5 : List UInt8 := [167, 255, 166, 28, 172]
abbrev dktX0_broken_5 : List UInt8 := dkwX0_broken_5 ++ []
def dkwX0_broken_4 : List UInt8 := [184, 1, 21, 153, 0, 7, 3, 167, 0, 4, 4, 96, 61, 132, 4, 1, 167, 255, 181, 132, 3, 1]
abbrev dktX0_broken_4 : List UInt8 := dkwX0_broken_4 ++ dktX0_broken_5
def dkwX0_broken_3 : List UInt8 := [167, 0, 28, 42, 180, 0, 34, 180, 0, 71, 29, 50, 42, 180, 0, 34, 180, 0, 71, 21, 4, 50]
abbrev dktX0_broken_3 : List UInt8 := dkwX0_broken_3 ++ dktX0_broken_4
def dkwX0_broken_2 : List UInt8 := [180, 0, 34, 180, 0, 71, 29, 50, 42, 180, 0, 34, 180, 0, 71, 21, 4, 50, 184, 1, 17, 153, 0, 35]
abbrev dktX0_broken_2 : List UInt8 := dkwX0_broken_2 ++ dktX0_broken_3
def dkwX0_broken_1 : List UInt8 := [3, 62, 29, 16, 7, 162, 0, 90, 3, 54, 4, 21, 4, 29, 162, 0, 75, 28, 27, 4, 160, 0, 31, 42]
abbrev dktX0_broken_1 : List UInt8 := dkwX0_broken_1 ++ dktX0_broken_2
def dkwX0_broken_0 : List UInt8 := [27, 6, 184, 0, 12, 154, 0, 5, 2, 172, 27, 154, 0, 11, 42, 180, 0, 34, 180, 0, 204, 172, 3, 61]
abbrev dktX0_broken_0 : List UInt8 := dkwX0_broken_0 ++ dktX0_broken_1
theorem dksX0_broken_0 : cX0_broken.data.toList.drop 0 = dktX0_broken_0 := by decide +kernel
theorem dksX0_broken_1 : cX0_broken.data.toList.drop 24 = dktX0_broken_1 := dk_seg dksX0_broken_0 24 rfl rfl
theorem dksX0_broken_2 : cX0_broken.data.toList.drop 48 = dktX0_broken_2 := dk_seg dksX0_broken_1 24 rfl rfl
theorem dksX0_broken_3 : cX0_broken.data.toList.drop 72 = dktX0_broken_3 := dk_seg dksX0_broken_2 24 rfl rfl
theorem dksX0_broken_4 : cX0_broken.data.toList.drop 94 = dktX0_broken_4 := dk_seg dksX0_broken_3 22 rfl rfl
theorem dksX0_broken_5 : cX0_broken.data.toList.drop 116 = dktX0_broken_5 := dk_seg dksX0_broken_4 22 rfl rfl
theorem dX0_broken_0 : decode cX0_broken 0 = .ok (.iload_n 1, 1) := dk_27 (dk_at dksX0_broken_0 0 rfl rfl)
theorem dX0_broken_1 : decode cX0_broken 1 = .ok (.iconst 3, 1) := dk_6 (dk_at dksX0_broken_0 1 rfl rfl)
theorem dX0_broken_2 : decode cX0_broken 2 = .ok (.invokestatic 12, 3) := dk_184 0 12 (dk_at dksX0_broken_0 2 rfl rfl)
theorem dX0_broken_5 : decode cX0_broken 5 = .ok (.ifCond .ne 5, 3) := dk_154 0 5 (dk_at dksX0_broken_0 5 rfl rfl)
theorem dX0_broken_8 : decode cX0_broken 8 = .ok (.iconst (-1), 1) := dk_2 (dk_at dksX0_broken_0 8 rfl rfl)
theorem dX0_broken_9 : decode cX0_broken 9 = .ok (.ireturn, 1) := dk_172 (dk_at dksX0_broken_0 9 rfl rfl)
theorem dX0_broken_10 : decode cX0_broken 10 = .ok (.iload_n 1, 1) := dk_27 (dk_at dksX0_broken_0 10 rfl rfl)
theorem dX0_broken_11 : decode cX0_broken 11 = .ok (.ifCond .ne 11, 3) := dk_154 0 11 (dk_at dksX0_broken_0 11 rfl rfl)
theorem dX0_broken_14 : decode cX0_broken 14 = .ok (.aload_n 0, 1) := dk_42 (dk_at dksX0_broken_0 14 rfl rfl)
theorem dX0_broken_15 : decode cX0_broken 15 = .ok (.getfield 34, 3) := dk_180 0 34 (dk_at dksX0_broken_0 15 rfl rfl)
theorem dX0_broken_18 : decode cX0_broken 18 = .ok (.getfield 204, 3) := dk_180 0 204 (dk_at dksX0_broken_0 18 rfl rfl)
theorem dX0_broken_21 : decode cX0_broken 21 = .ok (.ireturn, 1) := dk_172 (dk_at dksX0_broken_0 21 rfl rfl)
theorem dX0_broken_22 : decode cX0_broken 22 = .ok (.iconst 0, 1) := dk_3 (dk_at dksX0_broken_0 22 rfl rfl)
theorem dX0_broken_23 : decode cX0_broken 23 = .ok (.istore_n 2, 1) := dk_61 (dk_at dksX0_broken_0 23 rfl rfl)
theorem dX0_broken_24 : decode cX0_broken 24 = .ok (.iconst 0, 1) := dk_3 (dk_at dksX0_broken_1 0 rfl rfl)
theorem dX0_broken_25 : decode cX0_broken 25 = .ok (.istore_n 3, 1) := dk_62 (dk_at dksX0_broken_1 1 rfl rfl)
theorem dX0_broken_26 : decode cX0_broken 26 = .ok (.iload_n 3, 1) := dk_29 (dk_at dksX0_broken_1 2 rfl rfl)
theorem dX0_broken_27 : decode cX0_broken 27 = .ok (.bipush 7, 2) := dk_16 7 (dk_at dksX0_broken_1 3 rfl rfl)
theorem dX0_broken_29 : decode cX0_broken 29 = .ok (.if_icmp .ge 90, 3) := dk_162 0 90 (dk_at dksX0_broken_1 5 rfl rfl)
theorem dX0_broken_32 : decode cX0_broken 32 = .ok (.iconst 0, 1) := dk_3 (dk_at dksX0_broken_1 8 rfl rfl)
theorem dX0_broken_33 : decode cX0_broken 33 = .ok (.istore 4, 2) := dk_54 4 (dk_at dksX0_broken_1 9 rfl rfl)
theorem dX0_broken_35 : decode cX0_broken 35 = .ok (.iload 4, 2) := dk_21 4 (dk_at dksX0_broken_1 11 rfl rfl)
theorem dX0_broken_37 : decode cX0_broken 37 = .ok (.iload_n 3, 1) := dk_29 (dk_at dksX0_broken_1 13 rfl rfl)
theorem dX0_broken_38 : decode cX0_broken 38 = .ok (.if_icmp .ge 75, 3) := dk_162 0 75 (dk_at dksX0_broken_1 14 rfl rfl)
theorem dX0_broken_41 : decode cX0_broken 41 = .ok (.iload_n 2, 1) := dk_28 (dk_at dksX0_broken_1 17 rfl rfl)
theorem dX0_broken_42 : decode cX0_broken 42 = .ok (.iload_n 1, 1) := dk_27 (dk_at dksX0_broken_1 18 rfl rfl)
theorem dX0_broken_43 : decode cX0_broken 43 = .ok (.iconst 1, 1) := dk_4 (dk_at dksX0_broken_1 19 rfl rfl)
theorem dX0_broken_44 : decode cX0_broken 44 = .ok (.if_icmp .ne 31, 3) := dk_160 0 31 (dk_at dksX0_broken_1 20 rfl rfl)
theorem dX0_broken_47 : decode cX0_broken 47 = .ok (.aload_n 0, 1) := dk_42 (dk_at dksX0_broken_1 23 rfl rfl)
theorem dX0_broken_48 : decode cX0_broken 48 = .ok (.getfield 34, 3) := dk_180 0 34 (dk_at dksX0_broken_2 0 rfl rfl)
theorem dX0_broken_51 : decode cX0_broken 51 = .ok (.getfield 71, 3) := dk_180 0 71 (dk_at dksX0_broken_2 3 rfl rfl)
theorem dX0_broken_54 : decode cX0_broken 54 = .ok (.iload_n 3, 1) := dk_29 (dk_at dksX0_broken_2 6 rfl rfl)
theorem dX0_broken_55 : decode cX0_broken 55 = .ok (.aaload, 1) := dk_50 (dk_at dksX0_broken_2 7 rfl rfl)
theorem dX0_broken_56 : decode cX0_broken 56 = .ok (.aload_n 0, 1) := dk_42 (dk_at dksX0_broken_2 8 rfl rfl)
theorem dX0_broken_57 : decode cX0_broken 57 = .ok (.getfield 34, 3) := dk_180 0 34 (dk_at dksX0_broken_2 9 rfl rfl)
theorem dX0_broken_60 : decode cX0_broken 60 = .ok (.getfield 71, 3) := dk_180 0 71 (dk_at dksX0_broken_2 12 rfl rfl)
theorem dX0_broken_63 : decode cX0_broken 63 = .ok (.iload 4, 2) := dk_21 4 (dk_at dksX0_broken_2 15 rfl rfl)
theorem dX0_broken_65 : decode cX0_broken 65 = .ok (.aaload, 1) := dk_50 (dk_at dksX0_broken_2 17 rfl rfl)
theorem dX0_broken_66 : decode cX0_broken 66 = .ok (.invokestatic 273, 3) := dk_184 1 17 (dk_at dksX0_broken_2 18 rfl rfl)
theorem dX0_broken_69 : decode cX0_broken 69 = .ok (.ifCond .eq 35, 3) := dk_153 0 35 (dk_at dksX0_broken_2 21 rfl rfl)
theorem dX0_broken_72 : decode cX0_broken 72 = .ok (.goto 28, 3) := dk_167 0 28 (dk_at dksX0_broken_3 0 rfl rfl)
theorem dX0_broken_75 : decode cX0_broken 75 = .ok (.aload_n 0, 1) := dk_42 (dk_at dksX0_broken_3 3 rfl rfl)
theorem dX0_broken_76 : decode cX0_broken 76 = .ok (.getfield 34, 3) := dk_180 0 34 (dk_at dksX0_broken_3 4 rfl rfl)
theorem dX0_broken_79 : decode cX0_broken 79 = .ok (.getfield 71, 3) := dk_180 0 71 (dk_at dksX0_broken_3 7 rfl rfl)
theorem dX0_broken_82 : decode cX0_broken 82 = .ok (.iload_n 3, 1) := dk_29 (dk_at dksX0_broken_3 10 rfl rfl)
theorem dX0_broken_83 : decode cX0_broken 83 = .ok (.aaload, 1) := dk_50 (dk_at dksX0_broken_3 11 rfl rfl)
theorem dX0_broken_84 : decode cX0_broken 84 = .ok (.aload_n 0, 1) := dk_42 (dk_at dksX0_broken_3 12 rfl rfl)
theorem dX0_broken_85 : decode cX0_broken 85 = .ok (.getfield 34, 3) := dk_180 0 34 (dk_at dksX0_broken_3 13 rfl rfl)
theorem dX0_broken_88 : decode cX0_broken 88 = .ok (.getfield 71, 3) := dk_180 0 71 (dk_at dksX0_broken_3 16 rfl rfl)
theorem dX0_broken_91 : decode cX0_broken 91 = .ok (.iload 4, 2) := dk_21 4 (dk_at dksX0_broken_3 19 rfl rfl)
theorem dX0_broken_93 : decode cX0_broken 93 = .ok (.aaload, 1) := dk_50 (dk_at dksX0_broken_3 21 rfl rfl)
theorem dX0_broken_94 : decode cX0_broken 94 = .ok (.invokestatic 277, 3) := dk_184 1 21 (dk_at dksX0_broken_4 0 rfl rfl)
theorem dX0_broken_97 : decode cX0_broken 97 = .ok (.ifCond .eq 7, 3) := dk_153 0 7 (dk_at dksX0_broken_4 3 rfl rfl)
theorem dX0_broken_100 : decode cX0_broken 100 = .ok (.iconst 0, 1) := dk_3 (dk_at dksX0_broken_4 6 rfl rfl)
theorem dX0_broken_101 : decode cX0_broken 101 = .ok (.goto 4, 3) := dk_167 0 4 (dk_at dksX0_broken_4 7 rfl rfl)
theorem dX0_broken_104 : decode cX0_broken 104 = .ok (.iconst 1, 1) := dk_4 (dk_at dksX0_broken_4 10 rfl rfl)
theorem dX0_broken_105 : decode cX0_broken 105 = .ok (.iadd, 1) := dk_96 (dk_at dksX0_broken_4 11 rfl rfl)
theorem dX0_broken_106 : decode cX0_broken 106 = .ok (.istore_n 2, 1) := dk_61 (dk_at dksX0_broken_4 12 rfl rfl)
theorem dX0_broken_107 : decode cX0_broken 107 = .ok (.iinc 4 1, 3) := dk_132 4 1 (dk_at dksX0_broken_4 13 rfl rfl)
theorem dX0_broken_110 : decode cX0_broken 110 = .ok (.goto (-75), 3) := dk_167 255 181 (dk_at dksX0_broken_4 16 rfl rfl)
theorem dX0_broken_113 : decode cX0_broken 113 = .ok (.iinc 3 1, 3) := dk_132 3 1 (dk_at dksX0_broken_4 19 rfl rfl)
theorem dX0_broken_116 : decode cX0_broken 116 = .ok (.goto (-90), 3) := dk_167 255 166 (dk_at dksX0_broken_5 0 rfl rfl)
theorem dX0_broken_119 : decode cX0_broken 119 = .ok (.iload_n 2, 1) := dk_28 (dk_at dksX0_broken_5 3 rfl rfl)
theorem dX0_broken_120 : decode cX0_broken 120 = .ok (.ireturn, 1) := dk_172 (dk_at dksX0_broken_5 4 rfl rfl)
abbrev cX0_areMatched : ByteArray := prog_1_method_33_code
def yX0_areMatched : MethodName := ⟨RX0, "areMatched", "(LTermLog$Node;LTermLog$Node;)Z"⟩
def dkwX0_areMatched_3 : List UInt8 := [132, 3, 1, 167, 255, 200, 4, 172]
abbrev dktX0_areMatched_3 : List UInt8 := dkwX0_areMatched_3 ++ []
def dkwX0_areMatched_2 : List UInt8 := [167, 0, 4, 3, 61, 42, 29, 182, 0, 130, 43, 29, 182, 0, 130, 160, 0, 9, 28, 154, 0, 5, 3, 172]
abbrev dktX0_areMatched_2 : List UInt8 := dkwX0_areMatched_2 ++ dktX0_areMatched_3
def dkwX0_areMatched_1 : List UInt8 := [182, 0, 217, 184, 0, 1, 163, 0, 47, 28, 153, 0, 16, 42, 43, 29, 182, 1, 13, 153, 0, 7, 4]
abbrev dktX0_areMatched_1 : List UInt8 := dkwX0_areMatched_1 ++ dktX0_areMatched_2
def dkwX0_areMatched_0 : List UInt8 := [4, 61, 42, 180, 0, 100, 43, 180, 0, 100, 184, 0, 7, 4, 96, 62, 29, 42, 182, 0, 217, 43]
abbrev dktX0_areMatched_0 : List UInt8 := dkwX0_areMatched_0 ++ dktX0_areMatched_1
theorem dksX0_areMatched_0 : cX0_areMatched.data.toList.drop 0 = dktX0_areMatched_0 := by decide +kernel
theorem dksX0_areMatched_1 : cX0_areMatched.data.toList.drop 22 = dktX0_areMatched_1 := dk_seg dksX0_areMatched_0 22 rfl rfl
theorem dksX0_areMatched_2 : cX0_areMatched.data.toList.drop 45 = dktX0_areMatched_2 := dk_seg dksX0_areMatched_1 23 rfl rfl
theorem dksX0_areMatched_3 : cX0_areMatched.data.toList.drop 69 = dktX0_areMatched_3 := dk_seg dksX0_areMatched_2 24 rfl rfl
theorem dX0_areMatched_0 : decode cX0_areMatched 0 = .ok (.iconst 1, 1) := dk_4 (dk_at dksX0_areMatched_0 0 rfl rfl)
theorem dX0_areMatched_1 : decode cX0_areMatched 1 = .ok (.istore_n 2, 1) := dk_61 (dk_at dksX0_areMatched_0 1 rfl rfl)
theorem dX0_areMatched_2 : decode cX0_areMatched 2 = .ok (.aload_n 0, 1) := dk_42 (dk_at dksX0_areMatched_0 2 rfl rfl)
theorem dX0_areMatched_3 : decode cX0_areMatched 3 = .ok (.getfield 100, 3) := dk_180 0 100 (dk_at dksX0_areMatched_0 3 rfl rfl)
theorem dX0_areMatched_6 : decode cX0_areMatched 6 = .ok (.aload_n 1, 1) := dk_43 (dk_at dksX0_areMatched_0 6 rfl rfl)
theorem dX0_areMatched_7 : decode cX0_areMatched 7 = .ok (.getfield 100, 3) := dk_180 0 100 (dk_at dksX0_areMatched_0 7 rfl rfl)
theorem dX0_areMatched_10 : decode cX0_areMatched 10 = .ok (.invokestatic 7, 3) := dk_184 0 7 (dk_at dksX0_areMatched_0 10 rfl rfl)
theorem dX0_areMatched_13 : decode cX0_areMatched 13 = .ok (.iconst 1, 1) := dk_4 (dk_at dksX0_areMatched_0 13 rfl rfl)
theorem dX0_areMatched_14 : decode cX0_areMatched 14 = .ok (.iadd, 1) := dk_96 (dk_at dksX0_areMatched_0 14 rfl rfl)
theorem dX0_areMatched_15 : decode cX0_areMatched 15 = .ok (.istore_n 3, 1) := dk_62 (dk_at dksX0_areMatched_0 15 rfl rfl)
theorem dX0_areMatched_16 : decode cX0_areMatched 16 = .ok (.iload_n 3, 1) := dk_29 (dk_at dksX0_areMatched_0 16 rfl rfl)
theorem dX0_areMatched_17 : decode cX0_areMatched 17 = .ok (.aload_n 0, 1) := dk_42 (dk_at dksX0_areMatched_0 17 rfl rfl)
theorem dX0_areMatched_18 : decode cX0_areMatched 18 = .ok (.invokevirtual 217, 3) := dk_182 0 217 (dk_at dksX0_areMatched_0 18 rfl rfl)
theorem dX0_areMatched_21 : decode cX0_areMatched 21 = .ok (.aload_n 1, 1) := dk_43 (dk_at dksX0_areMatched_0 21 rfl rfl)
theorem dX0_areMatched_22 : decode cX0_areMatched 22 = .ok (.invokevirtual 217, 3) := dk_182 0 217 (dk_at dksX0_areMatched_1 0 rfl rfl)
theorem dX0_areMatched_25 : decode cX0_areMatched 25 = .ok (.invokestatic 1, 3) := dk_184 0 1 (dk_at dksX0_areMatched_1 3 rfl rfl)
theorem dX0_areMatched_28 : decode cX0_areMatched 28 = .ok (.if_icmp .gt 47, 3) := dk_163 0 47 (dk_at dksX0_areMatched_1 6 rfl rfl)
theorem dX0_areMatched_31 : decode cX0_areMatched 31 = .ok (.iload_n 2, 1) := dk_28 (dk_at dksX0_areMatched_1 9 rfl rfl)
theorem dX0_areMatched_32 : decode cX0_areMatched 32 = .ok (.ifCond .eq 16, 3) := dk_153 0 16 (dk_at dksX0_areMatched_1 10 rfl rfl)
theorem dX0_areMatched_35 : decode cX0_areMatched 35 = .ok (.aload_n 0, 1) := dk_42 (dk_at dksX0_areMatched_1 13 rfl rfl)
theorem dX0_areMatched_36 : decode cX0_areMatched 36 = .ok (.aload_n 1, 1) := dk_43 (dk_at dksX0_areMatched_1 14 rfl rfl)
theorem dX0_areMatched_37 : decode cX0_areMatched 37 = .ok (.iload_n 3, 1) := dk_29 (dk_at dksX0_areMatched_1 15 rfl rfl)
theorem dX0_areMatched_38 : decode cX0_areMatched 38 = .ok (.invokevirtual 269, 3) := dk_182 1 13 (dk_at dksX0_areMatched_1 16 rfl rfl)
theorem dX0_areMatched_41 : decode cX0_areMatched 41 = .ok (.ifCond .eq 7, 3) := dk_153 0 7 (dk_at dksX0_areMatched_1 19 rfl rfl)
theorem dX0_areMatched_44 : decode cX0_areMatched 44 = .ok (.iconst 1, 1) := dk_4 (dk_at dksX0_areMatched_1 22 rfl rfl)
theorem dX0_areMatched_45 : decode cX0_areMatched 45 = .ok (.goto 4, 3) := dk_167 0 4 (dk_at dksX0_areMatched_2 0 rfl rfl)
theorem dX0_areMatched_48 : decode cX0_areMatched 48 = .ok (.iconst 0, 1) := dk_3 (dk_at dksX0_areMatched_2 3 rfl rfl)
theorem dX0_areMatched_49 : decode cX0_areMatched 49 = .ok (.istore_n 2, 1) := dk_61 (dk_at dksX0_areMatched_2 4 rfl rfl)
theorem dX0_areMatched_50 : decode cX0_areMatched 50 = .ok (.aload_n 0, 1) := dk_42 (dk_at dksX0_areMatched_2 5 rfl rfl)
theorem dX0_areMatched_51 : decode cX0_areMatched 51 = .ok (.iload_n 3, 1) := dk_29 (dk_at dksX0_areMatched_2 6 rfl rfl)
theorem dX0_areMatched_52 : decode cX0_areMatched 52 = .ok (.invokevirtual 130, 3) := dk_182 0 130 (dk_at dksX0_areMatched_2 7 rfl rfl)
theorem dX0_areMatched_55 : decode cX0_areMatched 55 = .ok (.aload_n 1, 1) := dk_43 (dk_at dksX0_areMatched_2 10 rfl rfl)
theorem dX0_areMatched_56 : decode cX0_areMatched 56 = .ok (.iload_n 3, 1) := dk_29 (dk_at dksX0_areMatched_2 11 rfl rfl)
theorem dX0_areMatched_57 : decode cX0_areMatched 57 = .ok (.invokevirtual 130, 3) := dk_182 0 130 (dk_at dksX0_areMatched_2 12 rfl rfl)
theorem dX0_areMatched_60 : decode cX0_areMatched 60 = .ok (.if_icmp .ne 9, 3) := dk_160 0 9 (dk_at dksX0_areMatched_2 15 rfl rfl)
theorem dX0_areMatched_63 : decode cX0_areMatched 63 = .ok (.iload_n 2, 1) := dk_28 (dk_at dksX0_areMatched_2 18 rfl rfl)
theorem dX0_areMatched_64 : decode cX0_areMatched 64 = .ok (.ifCond .ne 5, 3) := dk_154 0 5 (dk_at dksX0_areMatched_2 19 rfl rfl)
theorem dX0_areMatched_67 : decode cX0_areMatched 67 = .ok (.iconst 0, 1) := dk_3 (dk_at dksX0_areMatched_2 22 rfl rfl)
theorem dX0_areMatched_68 : decode cX0_areMatched 68 = .ok (.ireturn, 1) := dk_172 (dk_at dksX0_areMatched_2 23 rfl rfl)
theorem dX0_areMatched_69 : decode cX0_areMatched 69 = .ok (.iinc 3 1, 3) := dk_132 3 1 (dk_at dksX0_areMatched_3 0 rfl rfl)
theorem dX0_areMatched_72 : decode cX0_areMatched 72 = .ok (.goto (-56), 3) := dk_167 255 200 (dk_at dksX0_areMatched_3 3 rfl rfl)
theorem dX0_areMatched_75 : decode cX0_areMatched 75 = .ok (.iconst 1, 1) := dk_4 (dk_at dksX0_areMatched_3 6 rfl rfl)
theorem dX0_areMatched_76 : decode cX0_areMatched 76 = .ok (.ireturn, 1) := dk_172 (dk_at dksX0_areMatched_3 7 rfl rfl)
abbrev cX0_areAlike : ByteArray := prog_1_method_34_code
def yX0_areAlike : MethodName := ⟨RX0, "areAlike", "(LTermLog$Node;LTermLog$Node;)Z"⟩
def dkwX0_areAlike_2 : List UInt8 := [46, 159, 0, 5, 3, 172, 132, 2, 1, 167, 255, 230, 4, 172]
abbrev dktX0_areAlike_2 : List UInt8 := dkwX0_areAlike_2 ++ []
def dkwX0_areAlike_1 : List UInt8 := [159, 0, 5, 4, 172, 3, 61, 28, 16, 8, 162, 0, 26, 42, 180, 0, 251, 28, 46, 43, 180, 0, 251, 28]
abbrev dktX0_areAlike_1 : List UInt8 := dkwX0_areAlike_1 ++ dktX0_areAlike_2
def dkwX0_areAlike_0 : List UInt8 := [42, 180, 0, 75, 153, 0, 21, 43, 180, 0, 75, 153, 0, 14, 42, 180, 0, 97, 43, 180, 0, 97]
abbrev dktX0_areAlike_0 : List UInt8 := dkwX0_areAlike_0 ++ dktX0_areAlike_1
theorem dksX0_areAlike_0 : cX0_areAlike.data.toList.drop 0 = dktX0_areAlike_0 := by decide +kernel
theorem dksX0_areAlike_1 : cX0_areAlike.data.toList.drop 22 = dktX0_areAlike_1 := dk_seg dksX0_areAlike_0 22 rfl rfl
theorem dksX0_areAlike_2 : cX0_areAlike.data.toList.drop 46 = dktX0_areAlike_2 := dk_seg dksX0_areAlike_1 24 rfl rfl
theorem dX0_areAlike_0 : decode cX0_areAlike 0 = .ok (.aload_n 0, 1) := dk_42 (dk_at dksX0_areAlike_0 0 rfl rfl)
theorem dX0_areAlike_1 : decode cX0_areAlike 1 = .ok (.getfield 75, 3) := dk_180 0 75 (dk_at dksX0_areAlike_0 1 rfl rfl)
theorem dX0_areAlike_4 : decode cX0_areAlike 4 = .ok (.ifCond .eq 21, 3) := dk_153 0 21 (dk_at dksX0_areAlike_0 4 rfl rfl)
theorem dX0_areAlike_7 : decode cX0_areAlike 7 = .ok (.aload_n 1, 1) := dk_43 (dk_at dksX0_areAlike_0 7 rfl rfl)
theorem dX0_areAlike_8 : decode cX0_areAlike 8 = .ok (.getfield 75, 3) := dk_180 0 75 (dk_at dksX0_areAlike_0 8 rfl rfl)
theorem dX0_areAlike_11 : decode cX0_areAlike 11 = .ok (.ifCond .eq 14, 3) := dk_153 0 14 (dk_at dksX0_areAlike_0 11 rfl rfl)
theorem dX0_areAlike_14 : decode cX0_areAlike 14 = .ok (.aload_n 0, 1) := dk_42 (dk_at dksX0_areAlike_0 14 rfl rfl)
theorem dX0_areAlike_15 : decode cX0_areAlike 15 = .ok (.getfield 97, 3) := dk_180 0 97 (dk_at dksX0_areAlike_0 15 rfl rfl)
theorem dX0_areAlike_18 : decode cX0_areAlike 18 = .ok (.aload_n 1, 1) := dk_43 (dk_at dksX0_areAlike_0 18 rfl rfl)
theorem dX0_areAlike_19 : decode cX0_areAlike 19 = .ok (.getfield 97, 3) := dk_180 0 97 (dk_at dksX0_areAlike_0 19 rfl rfl)
theorem dX0_areAlike_22 : decode cX0_areAlike 22 = .ok (.if_icmp .eq 5, 3) := dk_159 0 5 (dk_at dksX0_areAlike_1 0 rfl rfl)
theorem dX0_areAlike_25 : decode cX0_areAlike 25 = .ok (.iconst 1, 1) := dk_4 (dk_at dksX0_areAlike_1 3 rfl rfl)
theorem dX0_areAlike_26 : decode cX0_areAlike 26 = .ok (.ireturn, 1) := dk_172 (dk_at dksX0_areAlike_1 4 rfl rfl)
theorem dX0_areAlike_27 : decode cX0_areAlike 27 = .ok (.iconst 0, 1) := dk_3 (dk_at dksX0_areAlike_1 5 rfl rfl)
theorem dX0_areAlike_28 : decode cX0_areAlike 28 = .ok (.istore_n 2, 1) := dk_61 (dk_at dksX0_areAlike_1 6 rfl rfl)
theorem dX0_areAlike_29 : decode cX0_areAlike 29 = .ok (.iload_n 2, 1) := dk_28 (dk_at dksX0_areAlike_1 7 rfl rfl)
theorem dX0_areAlike_30 : decode cX0_areAlike 30 = .ok (.bipush 8, 2) := dk_16 8 (dk_at dksX0_areAlike_1 8 rfl rfl)
theorem dX0_areAlike_32 : decode cX0_areAlike 32 = .ok (.if_icmp .ge 26, 3) := dk_162 0 26 (dk_at dksX0_areAlike_1 10 rfl rfl)
theorem dX0_areAlike_35 : decode cX0_areAlike 35 = .ok (.aload_n 0, 1) := dk_42 (dk_at dksX0_areAlike_1 13 rfl rfl)
theorem dX0_areAlike_36 : decode cX0_areAlike 36 = .ok (.getfield 251, 3) := dk_180 0 251 (dk_at dksX0_areAlike_1 14 rfl rfl)
theorem dX0_areAlike_39 : decode cX0_areAlike 39 = .ok (.iload_n 2, 1) := dk_28 (dk_at dksX0_areAlike_1 17 rfl rfl)
theorem dX0_areAlike_40 : decode cX0_areAlike 40 = .ok (.iaload, 1) := dk_46 (dk_at dksX0_areAlike_1 18 rfl rfl)
theorem dX0_areAlike_41 : decode cX0_areAlike 41 = .ok (.aload_n 1, 1) := dk_43 (dk_at dksX0_areAlike_1 19 rfl rfl)
theorem dX0_areAlike_42 : decode cX0_areAlike 42 = .ok (.getfield 251, 3) := dk_180 0 251 (dk_at dksX0_areAlike_1 20 rfl rfl)
theorem dX0_areAlike_45 : decode cX0_areAlike 45 = .ok (.iload_n 2, 1) := dk_28 (dk_at dksX0_areAlike_1 23 rfl rfl)
theorem dX0_areAlike_46 : decode cX0_areAlike 46 = .ok (.iaload, 1) := dk_46 (dk_at dksX0_areAlike_2 0 rfl rfl)
theorem dX0_areAlike_47 : decode cX0_areAlike 47 = .ok (.if_icmp .eq 5, 3) := dk_159 0 5 (dk_at dksX0_areAlike_2 1 rfl rfl)
theorem dX0_areAlike_50 : decode cX0_areAlike 50 = .ok (.iconst 0, 1) := dk_3 (dk_at dksX0_areAlike_2 4 rfl rfl)
theorem dX0_areAlike_51 : decode cX0_areAlike 51 = .ok (.ireturn, 1) := dk_172 (dk_at dksX0_areAlike_2 5 rfl rfl)
theorem dX0_areAlike_52 : decode cX0_areAlike 52 = .ok (.iinc 2 1, 3) := dk_132 2 1 (dk_at dksX0_areAlike_2 6 rfl rfl)
theorem dX0_areAlike_55 : decode cX0_areAlike 55 = .ok (.goto (-26), 3) := dk_167 255 230 (dk_at dksX0_areAlike_2 9 rfl rfl)
theorem dX0_areAlike_58 : decode cX0_areAlike 58 = .ok (.iconst 1, 1) := dk_4 (dk_at dksX0_areAlike_2 12 rfl rfl)
theorem dX0_areAlike_59 : decode cX0_areAlike 59 = .ok (.ireturn, 1) := dk_172 (dk_at dksX0_areAlike_2 13 rfl rfl)
abbrev cX0_couldWin : ByteArray := prog_1_method_37_code
def yX0_couldWin : MethodName := ⟨RX0, "couldWin", "(II)I"⟩
def dkwX0_couldWin_5 : List UInt8 := [153, 0, 7, 4, 167, 0, 4, 3, 172]
abbrev dktX0_couldWin_5 : List UInt8 := dkwX0_couldWin_5 ++ []
def dkwX0_couldWin_4 : List UInt8 := [132, 5, 1, 167, 255, 211, 28, 4, 160, 0, 8, 21, 4, 167, 0, 17, 45, 21, 4, 182, 1, 39]
abbrev dktX0_couldWin_4 : List UInt8 := dkwX0_couldWin_4 ++ dktX0_couldWin_5
def dkwX0_couldWin_3 : List UInt8 := [153, 0, 20, 42, 21, 5, 27, 182, 1, 36, 153, 0, 10, 4, 21, 5, 120, 167, 0, 4, 3, 128, 54, 4]
abbrev dktX0_couldWin_3 : List UInt8 := dkwX0_couldWin_3 ++ dktX0_couldWin_4
def dkwX0_couldWin_2 : List UInt8 := [3, 54, 4, 3, 54, 5, 21, 5, 16, 7, 162, 0, 44, 21, 4, 45, 182, 1, 30, 21, 5, 184, 1, 33]
abbrev dktX0_couldWin_2 : List UInt8 := dkwX0_couldWin_2 ++ dktX0_couldWin_3
def dkwX0_couldWin_1 : List UInt8 := [27, 50, 78, 45, 180, 0, 75, 153, 0, 14, 45, 182, 1, 30, 27, 184, 1, 33, 154, 0, 6, 16, 254, 172]
abbrev dktX0_couldWin_1 : List UInt8 := dkwX0_couldWin_1 ++ dktX0_couldWin_2
def dkwX0_couldWin_0 : List UInt8 := [27, 184, 0, 67, 153, 0, 11, 28, 5, 184, 0, 12, 154, 0, 5, 2, 172, 42, 180, 0, 34, 180, 0, 71]
abbrev dktX0_couldWin_0 : List UInt8 := dkwX0_couldWin_0 ++ dktX0_couldWin_1
theorem dksX0_couldWin_0 : cX0_couldWin.data.toList.drop 0 = dktX0_couldWin_0 := by decide +kernel
theorem dksX0_couldWin_1 : cX0_couldWin.data.toList.drop 24 = dktX0_couldWin_1 := dk_seg dksX0_couldWin_0 24 rfl rfl
theorem dksX0_couldWin_2 : cX0_couldWin.data.toList.drop 48 = dktX0_couldWin_2 := dk_seg dksX0_couldWin_1 24 rfl rfl
theorem dksX0_couldWin_3 : cX0_couldWin.data.toList.drop 72 = dktX0_couldWin_3 := dk_seg dksX0_couldWin_2 24 rfl rfl
theorem dksX0_couldWin_4 : cX0_couldWin.data.toList.drop 96 = dktX0_couldWin_4 := dk_seg dksX0_couldWin_3 24 rfl rfl
theorem dksX0_couldWin_5 : cX0_couldWin.data.toList.drop 118 = dktX0_couldWin_5 := dk_seg dksX0_couldWin_4 22 rfl rfl
theorem dX0_couldWin_0 : decode cX0_couldWin 0 = .ok (.iload_n 1, 1) := dk_27 (dk_at dksX0_couldWin_0 0 rfl rfl)
theorem dX0_couldWin_1 : decode cX0_couldWin 1 = .ok (.invokestatic 67, 3) := dk_184 0 67 (dk_at dksX0_couldWin_0 1 rfl rfl)
theorem dX0_couldWin_4 : decode cX0_couldWin 4 = .ok (.ifCond .eq 11, 3) := dk_153 0 11 (dk_at dksX0_couldWin_0 4 rfl rfl)
theorem dX0_couldWin_7 : decode cX0_couldWin 7 = .ok (.iload_n 2, 1) := dk_28 (dk_at dksX0_couldWin_0 7 rfl rfl)
theorem dX0_couldWin_8 : decode cX0_couldWin 8 = .ok (.iconst 2, 1) := dk_5 (dk_at dksX0_couldWin_0 8 rfl rfl)
theorem dX0_couldWin_9 : decode cX0_couldWin 9 = .ok (.invokestatic 12, 3) := dk_184 0 12 (dk_at dksX0_couldWin_0 9 rfl rfl)
theorem dX0_couldWin_12 : decode cX0_couldWin 12 = .ok (.ifCond .ne 5, 3) := dk_154 0 5 (dk_at dksX0_couldWin_0 12 rfl rfl)
theorem dX0_couldWin_15 : decode cX0_couldWin 15 = .ok (.iconst (-1), 1) := dk_2 (dk_at dksX0_couldWin_0 15 rfl rfl)
theorem dX0_couldWin_16 : decode cX0_couldWin 16 = .ok (.ireturn, 1) := dk_172 (dk_at dksX0_couldWin_0 16 rfl rfl)
theorem dX0_couldWin_17 : decode cX0_couldWin 17 = .ok (.aload_n 0, 1) := dk_42 (dk_at dksX0_couldWin_0 17 rfl rfl)
theorem dX0_couldWin_18 : decode cX0_couldWin 18 = .ok (.getfield 34, 3) := dk_180 0 34 (dk_at dksX0_couldWin_0 18 rfl rfl)
theorem dX0_couldWin_21 : decode cX0_couldWin 21 = .ok (.getfield 71, 3) := dk_180 0 71 (dk_at dksX0_couldWin_0 21 rfl rfl)
theorem dX0_couldWin_24 : decode cX0_couldWin 24 = .ok (.iload_n 1, 1) := dk_27 (dk_at dksX0_couldWin_1 0 rfl rfl)
theorem dX0_couldWin_25 : decode cX0_couldWin 25 = .ok (.aaload, 1) := dk_50 (dk_at dksX0_couldWin_1 1 rfl rfl)
theorem dX0_couldWin_26 : decode cX0_couldWin 26 = .ok (.astore_n 3, 1) := dk_78 (dk_at dksX0_couldWin_1 2 rfl rfl)
theorem dX0_couldWin_27 : decode cX0_couldWin 27 = .ok (.aload_n 3, 1) := dk_45 (dk_at dksX0_couldWin_1 3 rfl rfl)
theorem dX0_couldWin_28 : decode cX0_couldWin 28 = .ok (.getfield 75, 3) := dk_180 0 75 (dk_at dksX0_couldWin_1 4 rfl rfl)
theorem dX0_couldWin_31 : decode cX0_couldWin 31 = .ok (.ifCond .eq 14, 3) := dk_153 0 14 (dk_at dksX0_couldWin_1 7 rfl rfl)
theorem dX0_couldWin_34 : decode cX0_couldWin 34 = .ok (.aload_n 3, 1) := dk_45 (dk_at dksX0_couldWin_1 10 rfl rfl)
theorem dX0_couldWin_35 : decode cX0_couldWin 35 = .ok (.invokevirtual 286, 3) := dk_182 1 30 (dk_at dksX0_couldWin_1 11 rfl rfl)
theorem dX0_couldWin_38 : decode cX0_couldWin 38 = .ok (.iload_n 1, 1) := dk_27 (dk_at dksX0_couldWin_1 14 rfl rfl)
theorem dX0_couldWin_39 : decode cX0_couldWin 39 = .ok (.invokestatic 289, 3) := dk_184 1 33 (dk_at dksX0_couldWin_1 15 rfl rfl)
theorem dX0_couldWin_42 : decode cX0_couldWin 42 = .ok (.ifCond .ne 6, 3) := dk_154 0 6 (dk_at dksX0_couldWin_1 18 rfl rfl)
theorem dX0_couldWin_45 : decode cX0_couldWin 45 = .ok (.bipush (-2), 2) := dk_16 254 (dk_at dksX0_couldWin_1 21 rfl rfl)
theorem dX0_couldWin_47 : decode cX0_couldWin 47 = .ok (.ireturn, 1) := dk_172 (dk_at dksX0_couldWin_1 23 rfl rfl)
theorem dX0_couldWin_48 : decode cX0_couldWin 48 = .ok (.iconst 0, 1) := dk_3 (dk_at dksX0_couldWin_2 0 rfl rfl)
theorem dX0_couldWin_49 : decode cX0_couldWin 49 = .ok (.istore 4, 2) := dk_54 4 (dk_at dksX0_couldWin_2 1 rfl rfl)
theorem dX0_couldWin_51 : decode cX0_couldWin 51 = .ok (.iconst 0, 1) := dk_3 (dk_at dksX0_couldWin_2 3 rfl rfl)
theorem dX0_couldWin_52 : decode cX0_couldWin 52 = .ok (.istore 5, 2) := dk_54 5 (dk_at dksX0_couldWin_2 4 rfl rfl)
theorem dX0_couldWin_54 : decode cX0_couldWin 54 = .ok (.iload 5, 2) := dk_21 5 (dk_at dksX0_couldWin_2 6 rfl rfl)
theorem dX0_couldWin_56 : decode cX0_couldWin 56 = .ok (.bipush 7, 2) := dk_16 7 (dk_at dksX0_couldWin_2 8 rfl rfl)
theorem dX0_couldWin_58 : decode cX0_couldWin 58 = .ok (.if_icmp .ge 44, 3) := dk_162 0 44 (dk_at dksX0_couldWin_2 10 rfl rfl)
theorem dX0_couldWin_61 : decode cX0_couldWin 61 = .ok (.iload 4, 2) := dk_21 4 (dk_at dksX0_couldWin_2 13 rfl rfl)
theorem dX0_couldWin_63 : decode cX0_couldWin 63 = .ok (.aload_n 3, 1) := dk_45 (dk_at dksX0_couldWin_2 15 rfl rfl)
theorem dX0_couldWin_64 : decode cX0_couldWin 64 = .ok (.invokevirtual 286, 3) := dk_182 1 30 (dk_at dksX0_couldWin_2 16 rfl rfl)
theorem dX0_couldWin_67 : decode cX0_couldWin 67 = .ok (.iload 5, 2) := dk_21 5 (dk_at dksX0_couldWin_2 19 rfl rfl)
theorem dX0_couldWin_69 : decode cX0_couldWin 69 = .ok (.invokestatic 289, 3) := dk_184 1 33 (dk_at dksX0_couldWin_2 21 rfl rfl)
theorem dX0_couldWin_72 : decode cX0_couldWin 72 = .ok (.ifCond .eq 20, 3) := dk_153 0 20 (dk_at dksX0_couldWin_3 0 rfl rfl)
theorem dX0_couldWin_75 : decode cX0_couldWin 75 = .ok (.aload_n 0, 1) := dk_42 (dk_at dksX0_couldWin_3 3 rfl rfl)
theorem dX0_couldWin_76 : decode cX0_couldWin 76 = .ok (.iload 5, 2) := dk_21 5 (dk_at dksX0_couldWin_3 4 rfl rfl)
theorem dX0_couldWin_78 : decode cX0_couldWin 78 = .ok (.iload_n 1, 1) := dk_27 (dk_at dksX0_couldWin_3 6 rfl rfl)
theorem dX0_couldWin_79 : decode cX0_couldWin 79 = .ok (.invokevirtual 292, 3) := dk_182 1 36 (dk_at dksX0_couldWin_3 7 rfl rfl)
theorem dX0_couldWin_82 : decode cX0_couldWin 82 = .ok (.ifCond .eq 10, 3) := dk_153 0 10 (dk_at dksX0_couldWin_3 10 rfl rfl)
theorem dX0_couldWin_85 : decode cX0_couldWin 85 = .ok (.iconst 1, 1) := dk_4 (dk_at dksX0_couldWin_3 13 rfl rfl)
theorem dX0_couldWin_86 : decode cX0_couldWin 86 = .ok (.iload 5, 2) := dk_21 5 (dk_at dksX0_couldWin_3 14 rfl rfl)
theorem dX0_couldWin_88 : decode cX0_couldWin 88 = .ok (.ishl, 1) := dk_120 (dk_at dksX0_couldWin_3 16 rfl rfl)
theorem dX0_couldWin_89 : decode cX0_couldWin 89 = .ok (.goto 4, 3) := dk_167 0 4 (dk_at dksX0_couldWin_3 17 rfl rfl)
theorem dX0_couldWin_92 : decode cX0_couldWin 92 = .ok (.iconst 0, 1) := dk_3 (dk_at dksX0_couldWin_3 20 rfl rfl)
theorem dX0_couldWin_93 : decode cX0_couldWin 93 = .ok (.ior, 1) := dk_128 (dk_at dksX0_couldWin_3 21 rfl rfl)
theorem dX0_couldWin_94 : decode cX0_couldWin 94 = .ok (.istore 4, 2) := dk_54 4 (dk_at dksX0_couldWin_3 22 rfl rfl)
theorem dX0_couldWin_96 : decode cX0_couldWin 96 = .ok (.iinc 5 1, 3) := dk_132 5 1 (dk_at dksX0_couldWin_4 0 rfl rfl)
theorem dX0_couldWin_99 : decode cX0_couldWin 99 = .ok (.goto (-45), 3) := dk_167 255 211 (dk_at dksX0_couldWin_4 3 rfl rfl)
theorem dX0_couldWin_102 : decode cX0_couldWin 102 = .ok (.iload_n 2, 1) := dk_28 (dk_at dksX0_couldWin_4 6 rfl rfl)
theorem dX0_couldWin_103 : decode cX0_couldWin 103 = .ok (.iconst 1, 1) := dk_4 (dk_at dksX0_couldWin_4 7 rfl rfl)
theorem dX0_couldWin_104 : decode cX0_couldWin 104 = .ok (.if_icmp .ne 8, 3) := dk_160 0 8 (dk_at dksX0_couldWin_4 8 rfl rfl)
theorem dX0_couldWin_107 : decode cX0_couldWin 107 = .ok (.iload 4, 2) := dk_21 4 (dk_at dksX0_couldWin_4 11 rfl rfl)
theorem dX0_couldWin_109 : decode cX0_couldWin 109 = .ok (.goto 17, 3) := dk_167 0 17 (dk_at dksX0_couldWin_4 13 rfl rfl)
theorem dX0_couldWin_112 : decode cX0_couldWin 112 = .ok (.aload_n 3, 1) := dk_45 (dk_at dksX0_couldWin_4 16 rfl rfl)
theorem dX0_couldWin_113 : decode cX0_couldWin 113 = .ok (.iload 4, 2) := dk_21 4 (dk_at dksX0_couldWin_4 17 rfl rfl)
theorem dX0_couldWin_115 : decode cX0_couldWin 115 = .ok (.invokevirtual 295, 3) := dk_182 1 39 (dk_at dksX0_couldWin_4 19 rfl rfl)
theorem dX0_couldWin_118 : decode cX0_couldWin 118 = .ok (.ifCond .eq 7, 3) := dk_153 0 7 (dk_at dksX0_couldWin_5 0 rfl rfl)
theorem dX0_couldWin_121 : decode cX0_couldWin 121 = .ok (.iconst 1, 1) := dk_4 (dk_at dksX0_couldWin_5 3 rfl rfl)
theorem dX0_couldWin_122 : decode cX0_couldWin 122 = .ok (.goto 4, 3) := dk_167 0 4 (dk_at dksX0_couldWin_5 4 rfl rfl)
theorem dX0_couldWin_125 : decode cX0_couldWin 125 = .ok (.iconst 0, 1) := dk_3 (dk_at dksX0_couldWin_5 7 rfl rfl)
theorem dX0_couldWin_126 : decode cX0_couldWin 126 = .ok (.ireturn, 1) := dk_172 (dk_at dksX0_couldWin_5 8 rfl rfl)
abbrev cX0_wouldGrant : ByteArray := prog_1_method_36_code
def yX0_wouldGrant : MethodName := ⟨RX0, "wouldGrant", "(II)Z"⟩
def dkwX0_wouldGrant_5 : List UInt8 := [182, 0, 130, 45, 182, 0, 217, 182, 1, 27, 153, 0, 7, 4, 167, 0, 4, 3, 172]
abbrev dktX0_wouldGrant_5 : List UInt8 := dkwX0_wouldGrant_5 ++ []
def dkwX0_wouldGrant_4 : List UInt8 := [160, 0, 7, 4, 167, 0, 4, 3, 54, 5, 21, 5, 153, 0, 27, 25, 4, 45, 45, 182, 0, 217]
abbrev dktX0_wouldGrant_4 : List UInt8 := dkwX0_wouldGrant_4 ++ dktX0_wouldGrant_5
def dkwX0_wouldGrant_3 : List UInt8 := [45, 180, 0, 134, 164, 0, 21, 25, 4, 180, 0, 207, 2, 159, 0, 12, 25, 4, 180, 0, 207, 28]
abbrev dktX0_wouldGrant_3 : List UInt8 := dkwX0_wouldGrant_3 ++ dktX0_wouldGrant_4
def dkwX0_wouldGrant_2 : List UInt8 := [153, 0, 17, 25, 4, 180, 0, 134, 45, 180, 0, 134, 4, 96, 164, 0, 5, 3, 172, 25, 4, 180, 0, 134]
abbrev dktX0_wouldGrant_2 : List UInt8 := dkwX0_wouldGrant_2 ++ dktX0_wouldGrant_3
def dkwX0_wouldGrant_1 : List UInt8 := [160, 0, 5, 4, 172, 25, 4, 180, 0, 75, 153, 0, 29, 42, 180, 0, 34, 27, 28, 182, 1, 24]
abbrev dktX0_wouldGrant_1 : List UInt8 := dkwX0_wouldGrant_1 ++ dktX0_wouldGrant_2
def dkwX0_wouldGrant_0 : List UInt8 := [42, 180, 0, 34, 180, 0, 71, 28, 50, 78, 42, 180, 0, 34, 180, 0, 71, 27, 50, 58, 4, 27, 28]
abbrev dktX0_wouldGrant_0 : List UInt8 := dkwX0_wouldGrant_0 ++ dktX0_wouldGrant_1
theorem dksX0_wouldGrant_0 : cX0_wouldGrant.data.toList.drop 0 = dktX0_wouldGrant_0 := by decide +kernel
theorem dksX0_wouldGrant_1 : cX0_wouldGrant.data.toList.drop 23 = dktX0_wouldGrant_1 := dk_seg dksX0_wouldGrant_0 23 rfl rfl
theorem dksX0_wouldGrant_2 : cX0_wouldGrant.data.toList.drop 45 = dktX0_wouldGrant_2 := dk_seg dksX0_wouldGrant_1 22 rfl rfl
theorem dksX0_wouldGrant_3 : cX0_wouldGrant.data.toList.drop 69 = dktX0_wouldGrant_3 := dk_seg dksX0_wouldGrant_2 24 rfl rfl
theorem dksX0_wouldGrant_4 : cX0_wouldGrant.data.toList.drop 91 = dktX0_wouldGrant_4 := dk_seg dksX0_wouldGrant_3 22 rfl rfl
theorem dksX0_wouldGrant_5 : cX0_wouldGrant.data.toList.drop 113 = dktX0_wouldGrant_5 := dk_seg dksX0_wouldGrant_4 22 rfl rfl
theorem dX0_wouldGrant_0 : decode cX0_wouldGrant 0 = .ok (.aload_n 0, 1) := dk_42 (dk_at dksX0_wouldGrant_0 0 rfl rfl)
theorem dX0_wouldGrant_1 : decode cX0_wouldGrant 1 = .ok (.getfield 34, 3) := dk_180 0 34 (dk_at dksX0_wouldGrant_0 1 rfl rfl)
theorem dX0_wouldGrant_4 : decode cX0_wouldGrant 4 = .ok (.getfield 71, 3) := dk_180 0 71 (dk_at dksX0_wouldGrant_0 4 rfl rfl)
theorem dX0_wouldGrant_7 : decode cX0_wouldGrant 7 = .ok (.iload_n 2, 1) := dk_28 (dk_at dksX0_wouldGrant_0 7 rfl rfl)
theorem dX0_wouldGrant_8 : decode cX0_wouldGrant 8 = .ok (.aaload, 1) := dk_50 (dk_at dksX0_wouldGrant_0 8 rfl rfl)
theorem dX0_wouldGrant_9 : decode cX0_wouldGrant 9 = .ok (.astore_n 3, 1) := dk_78 (dk_at dksX0_wouldGrant_0 9 rfl rfl)
theorem dX0_wouldGrant_10 : decode cX0_wouldGrant 10 = .ok (.aload_n 0, 1) := dk_42 (dk_at dksX0_wouldGrant_0 10 rfl rfl)
theorem dX0_wouldGrant_11 : decode cX0_wouldGrant 11 = .ok (.getfield 34, 3) := dk_180 0 34 (dk_at dksX0_wouldGrant_0 11 rfl rfl)
theorem dX0_wouldGrant_14 : decode cX0_wouldGrant 14 = .ok (.getfield 71, 3) := dk_180 0 71 (dk_at dksX0_wouldGrant_0 14 rfl rfl)
theorem dX0_wouldGrant_17 : decode cX0_wouldGrant 17 = .ok (.iload_n 1, 1) := dk_27 (dk_at dksX0_wouldGrant_0 17 rfl rfl)
theorem dX0_wouldGrant_18 : decode cX0_wouldGrant 18 = .ok (.aaload, 1) := dk_50 (dk_at dksX0_wouldGrant_0 18 rfl rfl)
theorem dX0_wouldGrant_19 : decode cX0_wouldGrant 19 = .ok (.astore 4, 2) := dk_58 4 (dk_at dksX0_wouldGrant_0 19 rfl rfl)
theorem dX0_wouldGrant_21 : decode cX0_wouldGrant 21 = .ok (.iload_n 1, 1) := dk_27 (dk_at dksX0_wouldGrant_0 21 rfl rfl)
theorem dX0_wouldGrant_22 : decode cX0_wouldGrant 22 = .ok (.iload_n 2, 1) := dk_28 (dk_at dksX0_wouldGrant_0 22 rfl rfl)
theorem dX0_wouldGrant_23 : decode cX0_wouldGrant 23 = .ok (.if_icmp .ne 5, 3) := dk_160 0 5 (dk_at dksX0_wouldGrant_1 0 rfl rfl)
theorem dX0_wouldGrant_26 : decode cX0_wouldGrant 26 = .ok (.iconst 1, 1) := dk_4 (dk_at dksX0_wouldGrant_1 3 rfl rfl)
theorem dX0_wouldGrant_27 : decode cX0_wouldGrant 27 = .ok (.ireturn, 1) := dk_172 (dk_at dksX0_wouldGrant_1 4 rfl rfl)
theorem dX0_wouldGrant_28 : decode cX0_wouldGrant 28 = .ok (.aload 4, 2) := dk_25 4 (dk_at dksX0_wouldGrant_1 5 rfl rfl)
theorem dX0_wouldGrant_30 : decode cX0_wouldGrant 30 = .ok (.getfield 75, 3) := dk_180 0 75 (dk_at dksX0_wouldGrant_1 7 rfl rfl)
theorem dX0_wouldGrant_33 : decode cX0_wouldGrant 33 = .ok (.ifCond .eq 29, 3) := dk_153 0 29 (dk_at dksX0_wouldGrant_1 10 rfl rfl)
theorem dX0_wouldGrant_36 : decode cX0_wouldGrant 36 = .ok (.aload_n 0, 1) := dk_42 (dk_at dksX0_wouldGrant_1 13 rfl rfl)
theorem dX0_wouldGrant_37 : decode cX0_wouldGrant 37 = .ok (.getfield 34, 3) := dk_180 0 34 (dk_at dksX0_wouldGrant_1 14 rfl rfl)
theorem dX0_wouldGrant_40 : decode cX0_wouldGrant 40 = .ok (.iload_n 1, 1) := dk_27 (dk_at dksX0_wouldGrant_1 17 rfl rfl)
theorem dX0_wouldGrant_41 : decode cX0_wouldGrant 41 = .ok (.iload_n 2, 1) := dk_28 (dk_at dksX0_wouldGrant_1 18 rfl rfl)
theorem dX0_wouldGrant_42 : decode cX0_wouldGrant 42 = .ok (.invokevirtual 280, 3) := dk_182 1 24 (dk_at dksX0_wouldGrant_1 19 rfl rfl)
theorem dX0_wouldGrant_45 : decode cX0_wouldGrant 45 = .ok (.ifCond .eq 17, 3) := dk_153 0 17 (dk_at dksX0_wouldGrant_2 0 rfl rfl)
theorem dX0_wouldGrant_48 : decode cX0_wouldGrant 48 = .ok (.aload 4, 2) := dk_25 4 (dk_at dksX0_wouldGrant_2 3 rfl rfl)
theorem dX0_wouldGrant_50 : decode cX0_wouldGrant 50 = .ok (.getfield 134, 3) := dk_180 0 134 (dk_at dksX0_wouldGrant_2 5 rfl rfl)
theorem dX0_wouldGrant_53 : decode cX0_wouldGrant 53 = .ok (.aload_n 3, 1) := dk_45 (dk_at dksX0_wouldGrant_2 8 rfl rfl)
theorem dX0_wouldGrant_54 : decode cX0_wouldGrant 54 = .ok (.getfield 134, 3) := dk_180 0 134 (dk_at dksX0_wouldGrant_2 9 rfl rfl)
theorem dX0_wouldGrant_57 : decode cX0_wouldGrant 57 = .ok (.iconst 1, 1) := dk_4 (dk_at dksX0_wouldGrant_2 12 rfl rfl)
theorem dX0_wouldGrant_58 : decode cX0_wouldGrant 58 = .ok (.iadd, 1) := dk_96 (dk_at dksX0_wouldGrant_2 13 rfl rfl)
theorem dX0_wouldGrant_59 : decode cX0_wouldGrant 59 = .ok (.if_icmp .le 5, 3) := dk_164 0 5 (dk_at dksX0_wouldGrant_2 14 rfl rfl)
theorem dX0_wouldGrant_62 : decode cX0_wouldGrant 62 = .ok (.iconst 0, 1) := dk_3 (dk_at dksX0_wouldGrant_2 17 rfl rfl)
theorem dX0_wouldGrant_63 : decode cX0_wouldGrant 63 = .ok (.ireturn, 1) := dk_172 (dk_at dksX0_wouldGrant_2 18 rfl rfl)
theorem dX0_wouldGrant_64 : decode cX0_wouldGrant 64 = .ok (.aload 4, 2) := dk_25 4 (dk_at dksX0_wouldGrant_2 19 rfl rfl)
theorem dX0_wouldGrant_66 : decode cX0_wouldGrant 66 = .ok (.getfield 134, 3) := dk_180 0 134 (dk_at dksX0_wouldGrant_2 21 rfl rfl)
theorem dX0_wouldGrant_69 : decode cX0_wouldGrant 69 = .ok (.aload_n 3, 1) := dk_45 (dk_at dksX0_wouldGrant_3 0 rfl rfl)
theorem dX0_wouldGrant_70 : decode cX0_wouldGrant 70 = .ok (.getfield 134, 3) := dk_180 0 134 (dk_at dksX0_wouldGrant_3 1 rfl rfl)
theorem dX0_wouldGrant_73 : decode cX0_wouldGrant 73 = .ok (.if_icmp .le 21, 3) := dk_164 0 21 (dk_at dksX0_wouldGrant_3 4 rfl rfl)
theorem dX0_wouldGrant_76 : decode cX0_wouldGrant 76 = .ok (.aload 4, 2) := dk_25 4 (dk_at dksX0_wouldGrant_3 7 rfl rfl)
theorem dX0_wouldGrant_78 : decode cX0_wouldGrant 78 = .ok (.getfield 207, 3) := dk_180 0 207 (dk_at dksX0_wouldGrant_3 9 rfl rfl)
theorem dX0_wouldGrant_81 : decode cX0_wouldGrant 81 = .ok (.iconst (-1), 1) := dk_2 (dk_at dksX0_wouldGrant_3 12 rfl rfl)
theorem dX0_wouldGrant_82 : decode cX0_wouldGrant 82 = .ok (.if_icmp .eq 12, 3) := dk_159 0 12 (dk_at dksX0_wouldGrant_3 13 rfl rfl)
theorem dX0_wouldGrant_85 : decode cX0_wouldGrant 85 = .ok (.aload 4, 2) := dk_25 4 (dk_at dksX0_wouldGrant_3 16 rfl rfl)
theorem dX0_wouldGrant_87 : decode cX0_wouldGrant 87 = .ok (.getfield 207, 3) := dk_180 0 207 (dk_at dksX0_wouldGrant_3 18 rfl rfl)
theorem dX0_wouldGrant_90 : decode cX0_wouldGrant 90 = .ok (.iload_n 2, 1) := dk_28 (dk_at dksX0_wouldGrant_3 21 rfl rfl)
theorem dX0_wouldGrant_91 : decode cX0_wouldGrant 91 = .ok (.if_icmp .ne 7, 3) := dk_160 0 7 (dk_at dksX0_wouldGrant_4 0 rfl rfl)
theorem dX0_wouldGrant_94 : decode cX0_wouldGrant 94 = .ok (.iconst 1, 1) := dk_4 (dk_at dksX0_wouldGrant_4 3 rfl rfl)
theorem dX0_wouldGrant_95 : decode cX0_wouldGrant 95 = .ok (.goto 4, 3) := dk_167 0 4 (dk_at dksX0_wouldGrant_4 4 rfl rfl)
theorem dX0_wouldGrant_98 : decode cX0_wouldGrant 98 = .ok (.iconst 0, 1) := dk_3 (dk_at dksX0_wouldGrant_4 7 rfl rfl)
theorem dX0_wouldGrant_99 : decode cX0_wouldGrant 99 = .ok (.istore 5, 2) := dk_54 5 (dk_at dksX0_wouldGrant_4 8 rfl rfl)
theorem dX0_wouldGrant_101 : decode cX0_wouldGrant 101 = .ok (.iload 5, 2) := dk_21 5 (dk_at dksX0_wouldGrant_4 10 rfl rfl)
theorem dX0_wouldGrant_103 : decode cX0_wouldGrant 103 = .ok (.ifCond .eq 27, 3) := dk_153 0 27 (dk_at dksX0_wouldGrant_4 12 rfl rfl)
theorem dX0_wouldGrant_106 : decode cX0_wouldGrant 106 = .ok (.aload 4, 2) := dk_25 4 (dk_at dksX0_wouldGrant_4 15 rfl rfl)
theorem dX0_wouldGrant_108 : decode cX0_wouldGrant 108 = .ok (.aload_n 3, 1) := dk_45 (dk_at dksX0_wouldGrant_4 17 rfl rfl)
theorem dX0_wouldGrant_109 : decode cX0_wouldGrant 109 = .ok (.aload_n 3, 1) := dk_45 (dk_at dksX0_wouldGrant_4 18 rfl rfl)
theorem dX0_wouldGrant_110 : decode cX0_wouldGrant 110 = .ok (.invokevirtual 217, 3) := dk_182 0 217 (dk_at dksX0_wouldGrant_4 19 rfl rfl)
theorem dX0_wouldGrant_113 : decode cX0_wouldGrant 113 = .ok (.invokevirtual 130, 3) := dk_182 0 130 (dk_at dksX0_wouldGrant_5 0 rfl rfl)
theorem dX0_wouldGrant_116 : decode cX0_wouldGrant 116 = .ok (.aload_n 3, 1) := dk_45 (dk_at dksX0_wouldGrant_5 3 rfl rfl)
theorem dX0_wouldGrant_117 : decode cX0_wouldGrant 117 = .ok (.invokevirtual 217, 3) := dk_182 0 217 (dk_at dksX0_wouldGrant_5 4 rfl rfl)
theorem dX0_wouldGrant_120 : decode cX0_wouldGrant 120 = .ok (.invokevirtual 283, 3) := dk_182 1 27 (dk_at dksX0_wouldGrant_5 7 rfl rfl)
theorem dX0_wouldGrant_123 : decode cX0_wouldGrant 123 = .ok (.ifCond .eq 7, 3) := dk_153 0 7 (dk_at dksX0_wouldGrant_5 10 rfl rfl)
theorem dX0_wouldGrant_126 : decode cX0_wouldGrant 126 = .ok (.iconst 1, 1) := dk_4 (dk_at dksX0_wouldGrant_5 13 rfl rfl)
theorem dX0_wouldGrant_127 : decode cX0_wouldGrant 127 = .ok (.goto 4, 3) := dk_167 0 4 (dk_at dksX0_wouldGrant_5 14 rfl rfl)
theorem dX0_wouldGrant_130 : decode cX0_wouldGrant 130 = .ok (.iconst 0, 1) := dk_3 (dk_at dksX0_wouldGrant_5 17 rfl rfl)
theorem dX0_wouldGrant_131 : decode cX0_wouldGrant 131 = .ok (.ireturn, 1) := dk_172 (dk_at dksX0_wouldGrant_5 18 rfl rfl)
abbrev cX0_majority : ByteArray := prog_1_method_38_code
def yX0_majority : MethodName := ⟨RX0, "majority", "(II)I"⟩
def dkwX0_majority_1 : List UInt8 := [180, 0, 71, 27, 50, 28, 182, 1, 39, 153, 0, 7, 4, 167, 0, 4, 3, 172]
abbrev dktX0_majority_1 : List UInt8 := dkwX0_majority_1 ++ []
def dkwX0_majority_0 : List UInt8 := [27, 184, 0, 67, 153, 0, 13, 28, 17, 0, 128, 184, 0, 12, 154, 0, 5, 2, 172, 42, 180, 0, 34]
abbrev dktX0_majority_0 : List UInt8 := dkwX0_majority_0 ++ dktX0_majority_1
theorem dksX0_majority_0 : cX0_majority.data.toList.drop 0 = dktX0_majority_0 := by decide +kernel
theorem dksX0_majority_1 : cX0_majority.data.toList.drop 23 = dktX0_majority_1 := dk_seg dksX0_majority_0 23 rfl rfl
theorem dX0_majority_0 : decode cX0_majority 0 = .ok (.iload_n 1, 1) := dk_27 (dk_at dksX0_majority_0 0 rfl rfl)
theorem dX0_majority_1 : decode cX0_majority 1 = .ok (.invokestatic 67, 3) := dk_184 0 67 (dk_at dksX0_majority_0 1 rfl rfl)
theorem dX0_majority_4 : decode cX0_majority 4 = .ok (.ifCond .eq 13, 3) := dk_153 0 13 (dk_at dksX0_majority_0 4 rfl rfl)
theorem dX0_majority_7 : decode cX0_majority 7 = .ok (.iload_n 2, 1) := dk_28 (dk_at dksX0_majority_0 7 rfl rfl)
theorem dX0_majority_8 : decode cX0_majority 8 = .ok (.sipush 128, 3) := dk_17 0 128 (dk_at dksX0_majority_0 8 rfl rfl)
theorem dX0_majority_11 : decode cX0_majority 11 = .ok (.invokestatic 12, 3) := dk_184 0 12 (dk_at dksX0_majority_0 11 rfl rfl)
theorem dX0_majority_14 : decode cX0_majority 14 = .ok (.ifCond .ne 5, 3) := dk_154 0 5 (dk_at dksX0_majority_0 14 rfl rfl)
theorem dX0_majority_17 : decode cX0_majority 17 = .ok (.iconst (-1), 1) := dk_2 (dk_at dksX0_majority_0 17 rfl rfl)
theorem dX0_majority_18 : decode cX0_majority 18 = .ok (.ireturn, 1) := dk_172 (dk_at dksX0_majority_0 18 rfl rfl)
theorem dX0_majority_19 : decode cX0_majority 19 = .ok (.aload_n 0, 1) := dk_42 (dk_at dksX0_majority_0 19 rfl rfl)
theorem dX0_majority_20 : decode cX0_majority 20 = .ok (.getfield 34, 3) := dk_180 0 34 (dk_at dksX0_majority_0 20 rfl rfl)
theorem dX0_majority_23 : decode cX0_majority 23 = .ok (.getfield 71, 3) := dk_180 0 71 (dk_at dksX0_majority_1 0 rfl rfl)
theorem dX0_majority_26 : decode cX0_majority 26 = .ok (.iload_n 1, 1) := dk_27 (dk_at dksX0_majority_1 3 rfl rfl)
theorem dX0_majority_27 : decode cX0_majority 27 = .ok (.aaload, 1) := dk_50 (dk_at dksX0_majority_1 4 rfl rfl)
theorem dX0_majority_28 : decode cX0_majority 28 = .ok (.iload_n 2, 1) := dk_28 (dk_at dksX0_majority_1 5 rfl rfl)
theorem dX0_majority_29 : decode cX0_majority 29 = .ok (.invokevirtual 295, 3) := dk_182 1 39 (dk_at dksX0_majority_1 6 rfl rfl)
theorem dX0_majority_32 : decode cX0_majority 32 = .ok (.ifCond .eq 7, 3) := dk_153 0 7 (dk_at dksX0_majority_1 9 rfl rfl)
theorem dX0_majority_35 : decode cX0_majority 35 = .ok (.iconst 1, 1) := dk_4 (dk_at dksX0_majority_1 12 rfl rfl)
theorem dX0_majority_36 : decode cX0_majority 36 = .ok (.goto 4, 3) := dk_167 0 4 (dk_at dksX0_majority_1 13 rfl rfl)
theorem dX0_majority_39 : decode cX0_majority 39 = .ok (.iconst 0, 1) := dk_3 (dk_at dksX0_majority_1 16 rfl rfl)
theorem dX0_majority_40 : decode cX0_majority 40 = .ok (.ireturn, 1) := dk_172 (dk_at dksX0_majority_1 17 rfl rfl)
abbrev cX0_till : ByteArray := prog_1_method_39_code
def yX0_till : MethodName := ⟨RX0, "till", "(II)I"⟩
def dkwX0_till_6 : List UInt8 := [132, 3, 1, 167, 255, 150, 16, 254, 172]
abbrev dktX0_till_6 : List UInt8 := dkwX0_till_6 ++ []
def dkwX0_till_5 : List UInt8 := [42, 180, 0, 38, 180, 0, 184, 17, 39, 15, 160, 0, 6, 16, 254, 172, 42, 180, 0, 38, 182, 1, 45]
abbrev dktX0_till_5 : List UInt8 := dkwX0_till_5 ++ dktX0_till_6
def dkwX0_till_4 : List UInt8 := [167, 0, 10, 42, 180, 0, 38, 182, 1, 42, 54, 4, 21, 4, 153, 0, 5, 29, 172, 29, 27, 159, 0, 16]
abbrev dktX0_till_4 : List UInt8 := dkwX0_till_4 ++ dktX0_till_5
def dkwX0_till_3 : List UInt8 := [42, 180, 0, 38, 180, 0, 147, 42, 180, 0, 34, 180, 0, 147, 164, 0, 7, 4, 167, 0, 14, 3]
abbrev dktX0_till_3 : List UInt8 := dkwX0_till_3 ++ dktX0_till_4
def dkwX0_till_2 : List UInt8 := [180, 0, 38, 182, 0, 198, 16, 254, 159, 0, 7, 4, 167, 0, 44, 3, 167, 0, 40, 28, 4, 160, 0, 28]
abbrev dktX0_till_2 : List UInt8 := dkwX0_till_2 ++ dktX0_till_3
def dkwX0_till_1 : List UInt8 := [180, 0, 38, 42, 180, 0, 34, 182, 0, 194, 87, 3, 62, 29, 27, 163, 0, 107, 28, 154, 0, 23, 42]
abbrev dktX0_till_1 : List UInt8 := dkwX0_till_1 ++ dktX0_till_2
def dkwX0_till_0 : List UInt8 := [27, 4, 17, 0, 200, 184, 0, 63, 153, 0, 11, 28, 6, 184, 0, 12, 154, 0, 5, 2, 172, 42]
abbrev dktX0_till_0 : List UInt8 := dkwX0_till_0 ++ dktX0_till_1
theorem dksX0_till_0 : cX0_till.data.toList.drop 0 = dktX0_till_0 := by decide +kernel
theorem dksX0_till_1 : cX0_till.data.toList.drop 22 = dktX0_till_1 := dk_seg dksX0_till_0 22 rfl rfl
theorem dksX0_till_2 : cX0_till.data.toList.drop 45 = dktX0_till_2 := dk_seg dksX0_till_1 23 rfl rfl
theorem dksX0_till_3 : cX0_till.data.toList.drop 69 = dktX0_till_3 := dk_seg dksX0_till_2 24 rfl rfl
theorem dksX0_till_4 : cX0_till.data.toList.drop 91 = dktX0_till_4 := dk_seg dksX0_till_3 22 rfl rfl
theorem dksX0_till_5 : cX0_till.data.toList.drop 115 = dktX0_till_5 := dk_seg dksX0_till_4 24 rfl rfl
theorem dksX0_till_6 : cX0_till.data.toList.drop 138 = dktX0_till_6 := dk_seg dksX0_till_5 23 rfl rfl
theorem dX0_till_0 : decode cX0_till 0 = .ok (.iload_n 1, 1) := dk_27 (dk_at dksX0_till_0 0 rfl rfl)
theorem dX0_till_1 : decode cX0_till 1 = .ok (.iconst 1, 1) := dk_4 (dk_at dksX0_till_0 1 rfl rfl)
theorem dX0_till_2 : decode cX0_till 2 = .ok (.sipush 200, 3) := dk_17 0 200 (dk_at dksX0_till_0 2 rfl rfl)
theorem dX0_till_5 : decode cX0_till 5 = .ok (.invokestatic 63, 3) := dk_184 0 63 (dk_at dksX0_till_0 5 rfl rfl)
theorem dX0_till_8 : decode cX0_till 8 = .ok (.ifCond .eq 11, 3) := dk_153 0 11 (dk_at dksX0_till_0 8 rfl rfl)
theorem dX0_till_11 : decode cX0_till 11 = .ok (.iload_n 2, 1) := dk_28 (dk_at dksX0_till_0 11 rfl rfl)
theorem dX0_till_12 : decode cX0_till 12 = .ok (.iconst 3, 1) := dk_6 (dk_at dksX0_till_0 12 rfl rfl)
theorem dX0_till_13 : decode cX0_till 13 = .ok (.invokestatic 12, 3) := dk_184 0 12 (dk_at dksX0_till_0 13 rfl rfl)
theorem dX0_till_16 : decode cX0_till 16 = .ok (.ifCond .ne 5, 3) := dk_154 0 5 (dk_at dksX0_till_0 16 rfl rfl)
theorem dX0_till_19 : decode cX0_till 19 = .ok (.iconst (-1), 1) := dk_2 (dk_at dksX0_till_0 19 rfl rfl)
theorem dX0_till_20 : decode cX0_till 20 = .ok (.ireturn, 1) := dk_172 (dk_at dksX0_till_0 20 rfl rfl)
theorem dX0_till_21 : decode cX0_till 21 = .ok (.aload_n 0, 1) := dk_42 (dk_at dksX0_till_0 21 rfl rfl)
theorem dX0_till_22 : decode cX0_till 22 = .ok (.getfield 38, 3) := dk_180 0 38 (dk_at dksX0_till_1 0 rfl rfl)
theorem dX0_till_25 : decode cX0_till 25 = .ok (.aload_n 0, 1) := dk_42 (dk_at dksX0_till_1 3 rfl rfl)
theorem dX0_till_26 : decode cX0_till 26 = .ok (.getfield 34, 3) := dk_180 0 34 (dk_at dksX0_till_1 4 rfl rfl)
theorem dX0_till_29 : decode cX0_till 29 = .ok (.invokevirtual 194, 3) := dk_182 0 194 (dk_at dksX0_till_1 7 rfl rfl)
theorem dX0_till_32 : decode cX0_till 32 = .ok (.pop, 1) := dk_87 (dk_at dksX0_till_1 10 rfl rfl)
theorem dX0_till_33 : decode cX0_till 33 = .ok (.iconst 0, 1) := dk_3 (dk_at dksX0_till_1 11 rfl rfl)
theorem dX0_till_34 : decode cX0_till 34 = .ok (.istore_n 3, 1) := dk_62 (dk_at dksX0_till_1 12 rfl rfl)
theorem dX0_till_35 : decode cX0_till 35 = .ok (.iload_n 3, 1) := dk_29 (dk_at dksX0_till_1 13 rfl rfl)
theorem dX0_till_36 : decode cX0_till 36 = .ok (.iload_n 1, 1) := dk_27 (dk_at dksX0_till_1 14 rfl rfl)
theorem dX0_till_37 : decode cX0_till 37 = .ok (.if_icmp .gt 107, 3) := dk_163 0 107 (dk_at dksX0_till_1 15 rfl rfl)
theorem dX0_till_40 : decode cX0_till 40 = .ok (.iload_n 2, 1) := dk_28 (dk_at dksX0_till_1 18 rfl rfl)
theorem dX0_till_41 : decode cX0_till 41 = .ok (.ifCond .ne 23, 3) := dk_154 0 23 (dk_at dksX0_till_1 19 rfl rfl)
theorem dX0_till_44 : decode cX0_till 44 = .ok (.aload_n 0, 1) := dk_42 (dk_at dksX0_till_1 22 rfl rfl)
theorem dX0_till_45 : decode cX0_till 45 = .ok (.getfield 38, 3) := dk_180 0 38 (dk_at dksX0_till_2 0 rfl rfl)
theorem dX0_till_48 : decode cX0_till 48 = .ok (.invokevirtual 198, 3) := dk_182 0 198 (dk_at dksX0_till_2 3 rfl rfl)
theorem dX0_till_51 : decode cX0_till 51 = .ok (.bipush (-2), 2) := dk_16 254 (dk_at dksX0_till_2 6 rfl rfl)
theorem dX0_till_53 : decode cX0_till 53 = .ok (.if_icmp .eq 7, 3) := dk_159 0 7 (dk_at dksX0_till_2 8 rfl rfl)
theorem dX0_till_56 : decode cX0_till 56 = .ok (.iconst 1, 1) := dk_4 (dk_at dksX0_till_2 11 rfl rfl)
theorem dX0_till_57 : decode cX0_till 57 = .ok (.goto 44, 3) := dk_167 0 44 (dk_at dksX0_till_2 12 rfl rfl)
theorem dX0_till_60 : decode cX0_till 60 = .ok (.iconst 0, 1) := dk_3 (dk_at dksX0_till_2 15 rfl rfl)
theorem dX0_till_61 : decode cX0_till 61 = .ok (.goto 40, 3) := dk_167 0 40 (dk_at dksX0_till_2 16 rfl rfl)
theorem dX0_till_64 : decode cX0_till 64 = .ok (.iload_n 2, 1) := dk_28 (dk_at dksX0_till_2 19 rfl rfl)
theorem dX0_till_65 : decode cX0_till 65 = .ok (.iconst 1, 1) := dk_4 (dk_at dksX0_till_2 20 rfl rfl)
theorem dX0_till_66 : decode cX0_till 66 = .ok (.if_icmp .ne 28, 3) := dk_160 0 28 (dk_at dksX0_till_2 21 rfl rfl)
theorem dX0_till_69 : decode cX0_till 69 = .ok (.aload_n 0, 1) := dk_42 (dk_at dksX0_till_3 0 rfl rfl)
theorem dX0_till_70 : decode cX0_till 70 = .ok (.getfield 38, 3) := dk_180 0 38 (dk_at dksX0_till_3 1 rfl rfl)
theorem dX0_till_73 : decode cX0_till 73 = .ok (.getfield 147, 3) := dk_180 0 147 (dk_at dksX0_till_3 4 rfl rfl)
theorem dX0_till_76 : decode cX0_till 76 = .ok (.aload_n 0, 1) := dk_42 (dk_at dksX0_till_3 7 rfl rfl)
theorem dX0_till_77 : decode cX0_till 77 = .ok (.getfield 34, 3) := dk_180 0 34 (dk_at dksX0_till_3 8 rfl rfl)
theorem dX0_till_80 : decode cX0_till 80 = .ok (.getfield 147, 3) := dk_180 0 147 (dk_at dksX0_till_3 11 rfl rfl)
theorem dX0_till_83 : decode cX0_till 83 = .ok (.if_icmp .le 7, 3) := dk_164 0 7 (dk_at dksX0_till_3 14 rfl rfl)
theorem dX0_till_86 : decode cX0_till 86 = .ok (.iconst 1, 1) := dk_4 (dk_at dksX0_till_3 17 rfl rfl)
theorem dX0_till_87 : decode cX0_till 87 = .ok (.goto 14, 3) := dk_167 0 14 (dk_at dksX0_till_3 18 rfl rfl)
theorem dX0_till_90 : decode cX0_till 90 = .ok (.iconst 0, 1) := dk_3 (dk_at dksX0_till_3 21 rfl rfl)
theorem dX0_till_91 : decode cX0_till 91 = .ok (.goto 10, 3) := dk_167 0 10 (dk_at dksX0_till_4 0 rfl rfl)
theorem dX0_till_94 : decode cX0_till 94 = .ok (.aload_n 0, 1) := dk_42 (dk_at dksX0_till_4 3 rfl rfl)
theorem dX0_till_95 : decode cX0_till 95 = .ok (.getfield 38, 3) := dk_180 0 38 (dk_at dksX0_till_4 4 rfl rfl)
theorem dX0_till_98 : decode cX0_till 98 = .ok (.invokevirtual 298, 3) := dk_182 1 42 (dk_at dksX0_till_4 7 rfl rfl)
theorem dX0_till_101 : decode cX0_till 101 = .ok (.istore 4, 2) := dk_54 4 (dk_at dksX0_till_4 10 rfl rfl)
theorem dX0_till_103 : decode cX0_till 103 = .ok (.iload 4, 2) := dk_21 4 (dk_at dksX0_till_4 12 rfl rfl)
theorem dX0_till_105 : decode cX0_till 105 = .ok (.ifCond .eq 5, 3) := dk_153 0 5 (dk_at dksX0_till_4 14 rfl rfl)
theorem dX0_till_108 : decode cX0_till 108 = .ok (.iload_n 3, 1) := dk_29 (dk_at dksX0_till_4 17 rfl rfl)
theorem dX0_till_109 : decode cX0_till 109 = .ok (.ireturn, 1) := dk_172 (dk_at dksX0_till_4 18 rfl rfl)
theorem dX0_till_110 : decode cX0_till 110 = .ok (.iload_n 3, 1) := dk_29 (dk_at dksX0_till_4 19 rfl rfl)
theorem dX0_till_111 : decode cX0_till 111 = .ok (.iload_n 1, 1) := dk_27 (dk_at dksX0_till_4 20 rfl rfl)
theorem dX0_till_112 : decode cX0_till 112 = .ok (.if_icmp .eq 16, 3) := dk_159 0 16 (dk_at dksX0_till_4 21 rfl rfl)
theorem dX0_till_115 : decode cX0_till 115 = .ok (.aload_n 0, 1) := dk_42 (dk_at dksX0_till_5 0 rfl rfl)
theorem dX0_till_116 : decode cX0_till 116 = .ok (.getfield 38, 3) := dk_180 0 38 (dk_at dksX0_till_5 1 rfl rfl)
theorem dX0_till_119 : decode cX0_till 119 = .ok (.getfield 184, 3) := dk_180 0 184 (dk_at dksX0_till_5 4 rfl rfl)
theorem dX0_till_122 : decode cX0_till 122 = .ok (.sipush 9999, 3) := dk_17 39 15 (dk_at dksX0_till_5 7 rfl rfl)
theorem dX0_till_125 : decode cX0_till 125 = .ok (.if_icmp .ne 6, 3) := dk_160 0 6 (dk_at dksX0_till_5 10 rfl rfl)
theorem dX0_till_128 : decode cX0_till 128 = .ok (.bipush (-2), 2) := dk_16 254 (dk_at dksX0_till_5 13 rfl rfl)
theorem dX0_till_130 : decode cX0_till 130 = .ok (.ireturn, 1) := dk_172 (dk_at dksX0_till_5 15 rfl rfl)
theorem dX0_till_131 : decode cX0_till 131 = .ok (.aload_n 0, 1) := dk_42 (dk_at dksX0_till_5 16 rfl rfl)
theorem dX0_till_132 : decode cX0_till 132 = .ok (.getfield 38, 3) := dk_180 0 38 (dk_at dksX0_till_5 17 rfl rfl)
theorem dX0_till_135 : decode cX0_till 135 = .ok (.invokevirtual 301, 3) := dk_182 1 45 (dk_at dksX0_till_5 20 rfl rfl)
theorem dX0_till_138 : decode cX0_till 138 = .ok (.iinc 3 1, 3) := dk_132 3 1 (dk_at dksX0_till_6 0 rfl rfl)
theorem dX0_till_141 : decode cX0_till 141 = .ok (.goto (-106), 3) := dk_167 255 150 (dk_at dksX0_till_6 3 rfl rfl)
theorem dX0_till_144 : decode cX0_till 144 = .ok (.bipush (-2), 2) := dk_16 254 (dk_at dksX0_till_6 6 rfl rfl)
theorem dX0_till_146 : decode cX0_till 146 = .ok (.ireturn, 1) := dk_172 (dk_at dksX0_till_6 8 rfl rfl)
abbrev cX0_seed : ByteArray := prog_1_method_40_code
def yX0_seed : MethodName := ⟨RX0, "seed", "(I)Z"⟩
def dkwX0_seed_0 : List UInt8 := [27, 19, 1, 48, 184, 0, 12, 154, 0, 5, 3, 172, 42, 180, 0, 34, 27, 181, 0, 55, 4, 172]
abbrev dktX0_seed_0 : List UInt8 := dkwX0_seed_0 ++ []
theorem dksX0_seed_0 : cX0_seed.data.toList.drop 0 = dktX0_seed_0 := by decide +kernel
theorem dX0_seed_0 : decode cX0_seed 0 = .ok (.iload_n 1, 1) := dk_27 (dk_at dksX0_seed_0 0 rfl rfl)
theorem dX0_seed_1 : decode cX0_seed 1 = .ok (.ldc_w 304, 3) := dk_19 1 48 (dk_at dksX0_seed_0 1 rfl rfl)
theorem dX0_seed_4 : decode cX0_seed 4 = .ok (.invokestatic 12, 3) := dk_184 0 12 (dk_at dksX0_seed_0 4 rfl rfl)
theorem dX0_seed_7 : decode cX0_seed 7 = .ok (.ifCond .ne 5, 3) := dk_154 0 5 (dk_at dksX0_seed_0 7 rfl rfl)
theorem dX0_seed_10 : decode cX0_seed 10 = .ok (.iconst 0, 1) := dk_3 (dk_at dksX0_seed_0 10 rfl rfl)
theorem dX0_seed_11 : decode cX0_seed 11 = .ok (.ireturn, 1) := dk_172 (dk_at dksX0_seed_0 11 rfl rfl)
theorem dX0_seed_12 : decode cX0_seed 12 = .ok (.aload_n 0, 1) := dk_42 (dk_at dksX0_seed_0 12 rfl rfl)
theorem dX0_seed_13 : decode cX0_seed 13 = .ok (.getfield 34, 3) := dk_180 0 34 (dk_at dksX0_seed_0 13 rfl rfl)
theorem dX0_seed_16 : decode cX0_seed 16 = .ok (.iload_n 1, 1) := dk_27 (dk_at dksX0_seed_0 16 rfl rfl)
theorem dX0_seed_17 : decode cX0_seed 17 = .ok (.putfield 55, 3) := dk_181 0 55 (dk_at dksX0_seed_0 17 rfl rfl)
theorem dX0_seed_20 : decode cX0_seed 20 = .ok (.iconst 1, 1) := dk_4 (dk_at dksX0_seed_0 20 rfl rfl)
theorem dX0_seed_21 : decode cX0_seed 21 = .ok (.ireturn, 1) := dk_172 (dk_at dksX0_seed_0 21 rfl rfl)
abbrev cX0_keep : ByteArray := prog_1_method_41_code
def yX0_keep : MethodName := ⟨RX0, "keep", "()I"⟩
def dkwX0_keep_1 : List UInt8 := [172]
abbrev dktX0_keep_1 : List UInt8 := dkwX0_keep_1 ++ []
def dkwX0_keep_0 : List UInt8 := [42, 4, 181, 1, 49, 42, 180, 0, 41, 42, 180, 0, 34, 182, 0, 194, 87, 42, 180, 0, 34, 180, 0, 184]
abbrev dktX0_keep_0 : List UInt8 := dkwX0_keep_0 ++ dktX0_keep_1
theorem dksX0_keep_0 : cX0_keep.data.toList.drop 0 = dktX0_keep_0 := by decide +kernel
theorem dksX0_keep_1 : cX0_keep.data.toList.drop 24 = dktX0_keep_1 := dk_seg dksX0_keep_0 24 rfl rfl
theorem dX0_keep_0 : decode cX0_keep 0 = .ok (.aload_n 0, 1) := dk_42 (dk_at dksX0_keep_0 0 rfl rfl)
theorem dX0_keep_1 : decode cX0_keep 1 = .ok (.iconst 1, 1) := dk_4 (dk_at dksX0_keep_0 1 rfl rfl)
theorem dX0_keep_2 : decode cX0_keep 2 = .ok (.putfield 305, 3) := dk_181 1 49 (dk_at dksX0_keep_0 2 rfl rfl)
theorem dX0_keep_5 : decode cX0_keep 5 = .ok (.aload_n 0, 1) := dk_42 (dk_at dksX0_keep_0 5 rfl rfl)
theorem dX0_keep_6 : decode cX0_keep 6 = .ok (.getfield 41, 3) := dk_180 0 41 (dk_at dksX0_keep_0 6 rfl rfl)
theorem dX0_keep_9 : decode cX0_keep 9 = .ok (.aload_n 0, 1) := dk_42 (dk_at dksX0_keep_0 9 rfl rfl)
theorem dX0_keep_10 : decode cX0_keep 10 = .ok (.getfield 34, 3) := dk_180 0 34 (dk_at dksX0_keep_0 10 rfl rfl)
theorem dX0_keep_13 : decode cX0_keep 13 = .ok (.invokevirtual 194, 3) := dk_182 0 194 (dk_at dksX0_keep_0 13 rfl rfl)
theorem dX0_keep_16 : decode cX0_keep 16 = .ok (.pop, 1) := dk_87 (dk_at dksX0_keep_0 16 rfl rfl)
theorem dX0_keep_17 : decode cX0_keep 17 = .ok (.aload_n 0, 1) := dk_42 (dk_at dksX0_keep_0 17 rfl rfl)
theorem dX0_keep_18 : decode cX0_keep 18 = .ok (.getfield 34, 3) := dk_180 0 34 (dk_at dksX0_keep_0 18 rfl rfl)
theorem dX0_keep_21 : decode cX0_keep 21 = .ok (.getfield 184, 3) := dk_180 0 184 (dk_at dksX0_keep_0 21 rfl rfl)
theorem dX0_keep_24 : decode cX0_keep 24 = .ok (.ireturn, 1) := dk_172 (dk_at dksX0_keep_1 0 rfl rfl)
abbrev cX0_undo : ByteArray := prog_1_method_42_code
def yX0_undo : MethodName := ⟨RX0, "undo", "()Z"⟩
def dkwX0_undo_0 : List UInt8 := [42, 180, 1, 49, 154, 0, 5, 3, 172, 42, 180, 0, 34, 42, 180, 0, 41, 182, 0, 194, 87, 4, 172]
abbrev dktX0_undo_0 : List UInt8 := dkwX0_undo_0 ++ []
theorem dksX0_undo_0 : cX0_undo.data.toList.drop 0 = dktX0_undo_0 := by decide +kernel
theorem dX0_undo_0 : decode cX0_undo 0 = .ok (.aload_n 0, 1) := dk_42 (dk_at dksX0_undo_0 0 rfl rfl)
theorem dX0_undo_1 : decode cX0_undo 1 = .ok (.getfield 305, 3) := dk_180 1 49 (dk_at dksX0_undo_0 1 rfl rfl)
theorem dX0_undo_4 : decode cX0_undo 4 = .ok (.ifCond .ne 5, 3) := dk_154 0 5 (dk_at dksX0_undo_0 4 rfl rfl)
theorem dX0_undo_7 : decode cX0_undo 7 = .ok (.iconst 0, 1) := dk_3 (dk_at dksX0_undo_0 7 rfl rfl)
theorem dX0_undo_8 : decode cX0_undo 8 = .ok (.ireturn, 1) := dk_172 (dk_at dksX0_undo_0 8 rfl rfl)
theorem dX0_undo_9 : decode cX0_undo 9 = .ok (.aload_n 0, 1) := dk_42 (dk_at dksX0_undo_0 9 rfl rfl)
theorem dX0_undo_10 : decode cX0_undo 10 = .ok (.getfield 34, 3) := dk_180 0 34 (dk_at dksX0_undo_0 10 rfl rfl)
theorem dX0_undo_13 : decode cX0_undo 13 = .ok (.aload_n 0, 1) := dk_42 (dk_at dksX0_undo_0 13 rfl rfl)
theorem dX0_undo_14 : decode cX0_undo 14 = .ok (.getfield 41, 3) := dk_180 0 41 (dk_at dksX0_undo_0 14 rfl rfl)
theorem dX0_undo_17 : decode cX0_undo 17 = .ok (.invokevirtual 194, 3) := dk_182 0 194 (dk_at dksX0_undo_0 17 rfl rfl)
theorem dX0_undo_20 : decode cX0_undo 20 = .ok (.pop, 1) := dk_87 (dk_at dksX0_undo_0 20 rfl rfl)
theorem dX0_undo_21 : decode cX0_undo 21 = .ok (.iconst 1, 1) := dk_4 (dk_at dksX0_undo_0 21 rfl rfl)
theorem dX0_undo_22 : decode cX0_undo 22 = .ok (.ireturn, 1) := dk_172 (dk_at dksX0_undo_0 22 rfl rfl)
abbrev cX0_check : ByteArray := prog_1_method_45_code
def yX0_check : MethodName := ⟨RX0, "check", "(I)I"⟩
def dkwX0_check_3 : List UInt8 := [159, 0, 5, 29, 172, 132, 3, 1, 167, 255, 213, 2, 172]
abbrev dktX0_check_3 : List UInt8 := dkwX0_check_3 ++ []
def dkwX0_check_2 : List UInt8 := [160, 0, 9, 17, 0, 255, 167, 0, 17, 42, 180, 0, 34, 180, 0, 71, 28, 50, 180, 0, 251, 29, 46]
abbrev dktX0_check_2 : List UInt8 := dkwX0_check_2 ++ dktX0_check_3
def dkwX0_check_1 : List UInt8 := [181, 0, 156, 42, 182, 1, 52, 61, 3, 62, 29, 27, 162, 0, 44, 42, 29, 182, 1, 55, 28, 2]
abbrev dktX0_check_1 : List UInt8 := dkwX0_check_1 ++ dktX0_check_2
def dkwX0_check_0 : List UInt8 := [27, 3, 16, 8, 184, 0, 63, 153, 0, 11, 27, 42, 180, 0, 156, 164, 0, 6, 16, 254, 172, 42, 3]
abbrev dktX0_check_0 : List UInt8 := dkwX0_check_0 ++ dktX0_check_1
theorem dksX0_check_0 : cX0_check.data.toList.drop 0 = dktX0_check_0 := by decide +kernel
theorem dksX0_check_1 : cX0_check.data.toList.drop 23 = dktX0_check_1 := dk_seg dksX0_check_0 23 rfl rfl
theorem dksX0_check_2 : cX0_check.data.toList.drop 45 = dktX0_check_2 := dk_seg dksX0_check_1 22 rfl rfl
theorem dksX0_check_3 : cX0_check.data.toList.drop 68 = dktX0_check_3 := dk_seg dksX0_check_2 23 rfl rfl
theorem dX0_check_0 : decode cX0_check 0 = .ok (.iload_n 1, 1) := dk_27 (dk_at dksX0_check_0 0 rfl rfl)
theorem dX0_check_1 : decode cX0_check 1 = .ok (.iconst 0, 1) := dk_3 (dk_at dksX0_check_0 1 rfl rfl)
theorem dX0_check_2 : decode cX0_check 2 = .ok (.bipush 8, 2) := dk_16 8 (dk_at dksX0_check_0 2 rfl rfl)
theorem dX0_check_4 : decode cX0_check 4 = .ok (.invokestatic 63, 3) := dk_184 0 63 (dk_at dksX0_check_0 4 rfl rfl)
theorem dX0_check_7 : decode cX0_check 7 = .ok (.ifCond .eq 11, 3) := dk_153 0 11 (dk_at dksX0_check_0 7 rfl rfl)
theorem dX0_check_10 : decode cX0_check 10 = .ok (.iload_n 1, 1) := dk_27 (dk_at dksX0_check_0 10 rfl rfl)
theorem dX0_check_11 : decode cX0_check 11 = .ok (.aload_n 0, 1) := dk_42 (dk_at dksX0_check_0 11 rfl rfl)
theorem dX0_check_12 : decode cX0_check 12 = .ok (.getfield 156, 3) := dk_180 0 156 (dk_at dksX0_check_0 12 rfl rfl)
theorem dX0_check_15 : decode cX0_check 15 = .ok (.if_icmp .le 6, 3) := dk_164 0 6 (dk_at dksX0_check_0 15 rfl rfl)
theorem dX0_check_18 : decode cX0_check 18 = .ok (.bipush (-2), 2) := dk_16 254 (dk_at dksX0_check_0 18 rfl rfl)
theorem dX0_check_20 : decode cX0_check 20 = .ok (.ireturn, 1) := dk_172 (dk_at dksX0_check_0 20 rfl rfl)
theorem dX0_check_21 : decode cX0_check 21 = .ok (.aload_n 0, 1) := dk_42 (dk_at dksX0_check_0 21 rfl rfl)
theorem dX0_check_22 : decode cX0_check 22 = .ok (.iconst 0, 1) := dk_3 (dk_at dksX0_check_0 22 rfl rfl)
theorem dX0_check_23 : decode cX0_check 23 = .ok (.putfield 156, 3) := dk_181 0 156 (dk_at dksX0_check_1 0 rfl rfl)
theorem dX0_check_26 : decode cX0_check 26 = .ok (.aload_n 0, 1) := dk_42 (dk_at dksX0_check_1 3 rfl rfl)
theorem dX0_check_27 : decode cX0_check 27 = .ok (.invokevirtual 308, 3) := dk_182 1 52 (dk_at dksX0_check_1 4 rfl rfl)
theorem dX0_check_30 : decode cX0_check 30 = .ok (.istore_n 2, 1) := dk_61 (dk_at dksX0_check_1 7 rfl rfl)
theorem dX0_check_31 : decode cX0_check 31 = .ok (.iconst 0, 1) := dk_3 (dk_at dksX0_check_1 8 rfl rfl)
theorem dX0_check_32 : decode cX0_check 32 = .ok (.istore_n 3, 1) := dk_62 (dk_at dksX0_check_1 9 rfl rfl)
theorem dX0_check_33 : decode cX0_check 33 = .ok (.iload_n 3, 1) := dk_29 (dk_at dksX0_check_1 10 rfl rfl)
theorem dX0_check_34 : decode cX0_check 34 = .ok (.iload_n 1, 1) := dk_27 (dk_at dksX0_check_1 11 rfl rfl)
theorem dX0_check_35 : decode cX0_check 35 = .ok (.if_icmp .ge 44, 3) := dk_162 0 44 (dk_at dksX0_check_1 12 rfl rfl)
theorem dX0_check_38 : decode cX0_check 38 = .ok (.aload_n 0, 1) := dk_42 (dk_at dksX0_check_1 15 rfl rfl)
theorem dX0_check_39 : decode cX0_check 39 = .ok (.iload_n 3, 1) := dk_29 (dk_at dksX0_check_1 16 rfl rfl)
theorem dX0_check_40 : decode cX0_check 40 = .ok (.invokevirtual 311, 3) := dk_182 1 55 (dk_at dksX0_check_1 17 rfl rfl)
theorem dX0_check_43 : decode cX0_check 43 = .ok (.iload_n 2, 1) := dk_28 (dk_at dksX0_check_1 20 rfl rfl)
theorem dX0_check_44 : decode cX0_check 44 = .ok (.iconst (-1), 1) := dk_2 (dk_at dksX0_check_1 21 rfl rfl)
theorem dX0_check_45 : decode cX0_check 45 = .ok (.if_icmp .ne 9, 3) := dk_160 0 9 (dk_at dksX0_check_2 0 rfl rfl)
theorem dX0_check_48 : decode cX0_check 48 = .ok (.sipush 255, 3) := dk_17 0 255 (dk_at dksX0_check_2 3 rfl rfl)
theorem dX0_check_51 : decode cX0_check 51 = .ok (.goto 17, 3) := dk_167 0 17 (dk_at dksX0_check_2 6 rfl rfl)
theorem dX0_check_54 : decode cX0_check 54 = .ok (.aload_n 0, 1) := dk_42 (dk_at dksX0_check_2 9 rfl rfl)
theorem dX0_check_55 : decode cX0_check 55 = .ok (.getfield 34, 3) := dk_180 0 34 (dk_at dksX0_check_2 10 rfl rfl)
theorem dX0_check_58 : decode cX0_check 58 = .ok (.getfield 71, 3) := dk_180 0 71 (dk_at dksX0_check_2 13 rfl rfl)
theorem dX0_check_61 : decode cX0_check 61 = .ok (.iload_n 2, 1) := dk_28 (dk_at dksX0_check_2 16 rfl rfl)
theorem dX0_check_62 : decode cX0_check 62 = .ok (.aaload, 1) := dk_50 (dk_at dksX0_check_2 17 rfl rfl)
theorem dX0_check_63 : decode cX0_check 63 = .ok (.getfield 251, 3) := dk_180 0 251 (dk_at dksX0_check_2 18 rfl rfl)
theorem dX0_check_66 : decode cX0_check 66 = .ok (.iload_n 3, 1) := dk_29 (dk_at dksX0_check_2 21 rfl rfl)
theorem dX0_check_67 : decode cX0_check 67 = .ok (.iaload, 1) := dk_46 (dk_at dksX0_check_2 22 rfl rfl)
theorem dX0_check_68 : decode cX0_check 68 = .ok (.if_icmp .eq 5, 3) := dk_159 0 5 (dk_at dksX0_check_3 0 rfl rfl)
theorem dX0_check_71 : decode cX0_check 71 = .ok (.iload_n 3, 1) := dk_29 (dk_at dksX0_check_3 3 rfl rfl)
theorem dX0_check_72 : decode cX0_check 72 = .ok (.ireturn, 1) := dk_172 (dk_at dksX0_check_3 4 rfl rfl)
theorem dX0_check_73 : decode cX0_check 73 = .ok (.iinc 3 1, 3) := dk_132 3 1 (dk_at dksX0_check_3 5 rfl rfl)
theorem dX0_check_76 : decode cX0_check 76 = .ok (.goto (-43), 3) := dk_167 255 213 (dk_at dksX0_check_3 8 rfl rfl)
theorem dX0_check_79 : decode cX0_check 79 = .ok (.iconst (-1), 1) := dk_2 (dk_at dksX0_check_3 11 rfl rfl)
theorem dX0_check_80 : decode cX0_check 80 = .ok (.ireturn, 1) := dk_172 (dk_at dksX0_check_3 12 rfl rfl)
abbrev cX0_farthest : ByteArray := prog_1_method_44_code
def yX0_farthest : MethodName := ⟨RX0, "farthest", "()I"⟩
def dkwX0_farthest_2 : List UInt8 := [180, 0, 71, 27, 50, 180, 0, 97, 164, 0, 5, 28, 60, 132, 2, 1, 167, 255, 198, 27, 172]
abbrev dktX0_farthest_2 : List UInt8 := dkwX0_farthest_2 ++ []
def dkwX0_farthest_1 : List UInt8 := [153, 0, 37, 27, 2, 159, 0, 30, 42, 180, 0, 34, 180, 0, 71, 28, 50, 180, 0, 97, 42, 180, 0, 34]
abbrev dktX0_farthest_1 : List UInt8 := dkwX0_farthest_1 ++ dktX0_farthest_2
def dkwX0_farthest_0 : List UInt8 := [2, 60, 3, 61, 28, 16, 7, 162, 0, 58, 42, 180, 0, 34, 180, 0, 71, 28, 50, 180, 0, 75]
abbrev dktX0_farthest_0 : List UInt8 := dkwX0_farthest_0 ++ dktX0_farthest_1
theorem dksX0_farthest_0 : cX0_farthest.data.toList.drop 0 = dktX0_farthest_0 := by decide +kernel
theorem dksX0_farthest_1 : cX0_farthest.data.toList.drop 22 = dktX0_farthest_1 := dk_seg dksX0_farthest_0 22 rfl rfl
theorem dksX0_farthest_2 : cX0_farthest.data.toList.drop 46 = dktX0_farthest_2 := dk_seg dksX0_farthest_1 24 rfl rfl
theorem dX0_farthest_0 : decode cX0_farthest 0 = .ok (.iconst (-1), 1) := dk_2 (dk_at dksX0_farthest_0 0 rfl rfl)
theorem dX0_farthest_1 : decode cX0_farthest 1 = .ok (.istore_n 1, 1) := dk_60 (dk_at dksX0_farthest_0 1 rfl rfl)
theorem dX0_farthest_2 : decode cX0_farthest 2 = .ok (.iconst 0, 1) := dk_3 (dk_at dksX0_farthest_0 2 rfl rfl)
theorem dX0_farthest_3 : decode cX0_farthest 3 = .ok (.istore_n 2, 1) := dk_61 (dk_at dksX0_farthest_0 3 rfl rfl)
theorem dX0_farthest_4 : decode cX0_farthest 4 = .ok (.iload_n 2, 1) := dk_28 (dk_at dksX0_farthest_0 4 rfl rfl)
theorem dX0_farthest_5 : decode cX0_farthest 5 = .ok (.bipush 7, 2) := dk_16 7 (dk_at dksX0_farthest_0 5 rfl rfl)
theorem dX0_farthest_7 : decode cX0_farthest 7 = .ok (.if_icmp .ge 58, 3) := dk_162 0 58 (dk_at dksX0_farthest_0 7 rfl rfl)
theorem dX0_farthest_10 : decode cX0_farthest 10 = .ok (.aload_n 0, 1) := dk_42 (dk_at dksX0_farthest_0 10 rfl rfl)
theorem dX0_farthest_11 : decode cX0_farthest 11 = .ok (.getfield 34, 3) := dk_180 0 34 (dk_at dksX0_farthest_0 11 rfl rfl)
theorem dX0_farthest_14 : decode cX0_farthest 14 = .ok (.getfield 71, 3) := dk_180 0 71 (dk_at dksX0_farthest_0 14 rfl rfl)
theorem dX0_farthest_17 : decode cX0_farthest 17 = .ok (.iload_n 2, 1) := dk_28 (dk_at dksX0_farthest_0 17 rfl rfl)
theorem dX0_farthest_18 : decode cX0_farthest 18 = .ok (.aaload, 1) := dk_50 (dk_at dksX0_farthest_0 18 rfl rfl)
theorem dX0_farthest_19 : decode cX0_farthest 19 = .ok (.getfield 75, 3) := dk_180 0 75 (dk_at dksX0_farthest_0 19 rfl rfl)
theorem dX0_farthest_22 : decode cX0_farthest 22 = .ok (.ifCond .eq 37, 3) := dk_153 0 37 (dk_at dksX0_farthest_1 0 rfl rfl)
theorem dX0_farthest_25 : decode cX0_farthest 25 = .ok (.iload_n 1, 1) := dk_27 (dk_at dksX0_farthest_1 3 rfl rfl)
theorem dX0_farthest_26 : decode cX0_farthest 26 = .ok (.iconst (-1), 1) := dk_2 (dk_at dksX0_farthest_1 4 rfl rfl)
theorem dX0_farthest_27 : decode cX0_farthest 27 = .ok (.if_icmp .eq 30, 3) := dk_159 0 30 (dk_at dksX0_farthest_1 5 rfl rfl)
theorem dX0_farthest_30 : decode cX0_farthest 30 = .ok (.aload_n 0, 1) := dk_42 (dk_at dksX0_farthest_1 8 rfl rfl)
theorem dX0_farthest_31 : decode cX0_farthest 31 = .ok (.getfield 34, 3) := dk_180 0 34 (dk_at dksX0_farthest_1 9 rfl rfl)
theorem dX0_farthest_34 : decode cX0_farthest 34 = .ok (.getfield 71, 3) := dk_180 0 71 (dk_at dksX0_farthest_1 12 rfl rfl)
theorem dX0_farthest_37 : decode cX0_farthest 37 = .ok (.iload_n 2, 1) := dk_28 (dk_at dksX0_farthest_1 15 rfl rfl)
theorem dX0_farthest_38 : decode cX0_farthest 38 = .ok (.aaload, 1) := dk_50 (dk_at dksX0_farthest_1 16 rfl rfl)
theorem dX0_farthest_39 : decode cX0_farthest 39 = .ok (.getfield 97, 3) := dk_180 0 97 (dk_at dksX0_farthest_1 17 rfl rfl)
theorem dX0_farthest_42 : decode cX0_farthest 42 = .ok (.aload_n 0, 1) := dk_42 (dk_at dksX0_farthest_1 20 rfl rfl)
theorem dX0_farthest_43 : decode cX0_farthest 43 = .ok (.getfield 34, 3) := dk_180 0 34 (dk_at dksX0_farthest_1 21 rfl rfl)
theorem dX0_farthest_46 : decode cX0_farthest 46 = .ok (.getfield 71, 3) := dk_180 0 71 (dk_at dksX0_farthest_2 0 rfl rfl)
theorem dX0_farthest_49 : decode cX0_farthest 49 = .ok (.iload_n 1, 1) := dk_27 (dk_at dksX0_farthest_2 3 rfl rfl)
theorem dX0_farthest_50 : decode cX0_farthest 50 = .ok (.aaload, 1) := dk_50 (dk_at dksX0_farthest_2 4 rfl rfl)
theorem dX0_farthest_51 : decode cX0_farthest 51 = .ok (.getfield 97, 3) := dk_180 0 97 (dk_at dksX0_farthest_2 5 rfl rfl)
theorem dX0_farthest_54 : decode cX0_farthest 54 = .ok (.if_icmp .le 5, 3) := dk_164 0 5 (dk_at dksX0_farthest_2 8 rfl rfl)
theorem dX0_farthest_57 : decode cX0_farthest 57 = .ok (.iload_n 2, 1) := dk_28 (dk_at dksX0_farthest_2 11 rfl rfl)
theorem dX0_farthest_58 : decode cX0_farthest 58 = .ok (.istore_n 1, 1) := dk_60 (dk_at dksX0_farthest_2 12 rfl rfl)
theorem dX0_farthest_59 : decode cX0_farthest 59 = .ok (.iinc 2 1, 3) := dk_132 2 1 (dk_at dksX0_farthest_2 13 rfl rfl)
theorem dX0_farthest_62 : decode cX0_farthest 62 = .ok (.goto (-58), 3) := dk_167 255 198 (dk_at dksX0_farthest_2 16 rfl rfl)
theorem dX0_farthest_65 : decode cX0_farthest 65 = .ok (.iload_n 1, 1) := dk_27 (dk_at dksX0_farthest_2 19 rfl rfl)
theorem dX0_farthest_66 : decode cX0_farthest 66 = .ok (.ireturn, 1) := dk_172 (dk_at dksX0_farthest_2 20 rfl rfl)
abbrev cX0_fed : ByteArray := prog_1_method_43_code
def yX0_fed : MethodName := ⟨RX0, "fed", "(I)I"⟩
def dkwX0_fed_0 : List UInt8 := [42, 180, 0, 44, 27, 51, 17, 0, 255, 126, 172]
abbrev dktX0_fed_0 : List UInt8 := dkwX0_fed_0 ++ []
theorem dksX0_fed_0 : cX0_fed.data.toList.drop 0 = dktX0_fed_0 := by decide +kernel
theorem dX0_fed_0 : decode cX0_fed 0 = .ok (.aload_n 0, 1) := dk_42 (dk_at dksX0_fed_0 0 rfl rfl)
theorem dX0_fed_1 : decode cX0_fed 1 = .ok (.getfield 44, 3) := dk_180 0 44 (dk_at dksX0_fed_0 1 rfl rfl)
theorem dX0_fed_4 : decode cX0_fed 4 = .ok (.iload_n 1, 1) := dk_27 (dk_at dksX0_fed_0 4 rfl rfl)
theorem dX0_fed_5 : decode cX0_fed 5 = .ok (.baload, 1) := dk_51 (dk_at dksX0_fed_0 5 rfl rfl)
theorem dX0_fed_6 : decode cX0_fed 6 = .ok (.sipush 255, 3) := dk_17 0 255 (dk_at dksX0_fed_0 6 rfl rfl)
theorem dX0_fed_9 : decode cX0_fed 9 = .ok (.iand, 1) := dk_126 (dk_at dksX0_fed_0 9 rfl rfl)
theorem dX0_fed_10 : decode cX0_fed 10 = .ok (.ireturn, 1) := dk_172 (dk_at dksX0_fed_0 10 rfl rfl)
abbrev cX0_count : ByteArray := prog_1_method_48_code
def yX0_count : MethodName := ⟨RX0, "count", "(I)I"⟩
def dkwX0_count_5 : List UInt8 := [172, 2, 172]
abbrev dktX0_count_5 : List UInt8 := dkwX0_count_5 ++ []
def dkwX0_count_4 : List UInt8 := [180, 0, 55, 172, 42, 180, 0, 34, 180, 0, 127, 172, 42, 180, 0, 34, 180, 1, 67, 172, 42, 182, 1, 70]
abbrev dktX0_count_4 : List UInt8 := dkwX0_count_4 ++ dktX0_count_5
def dkwX0_count_3 : List UInt8 := [180, 0, 34, 180, 0, 147, 172, 42, 180, 0, 51, 180, 1, 66, 172, 42, 180, 0, 156, 172, 42, 180, 0, 34]
abbrev dktX0_count_3 : List UInt8 := dkwX0_count_3 ++ dktX0_count_4
def dkwX0_count_2 : List UInt8 := [42, 180, 0, 34, 180, 0, 184, 172, 42, 182, 1, 63, 172, 42, 180, 0, 34, 180, 0, 201, 172, 42]
abbrev dktX0_count_2 : List UInt8 := dkwX0_count_2 ++ dktX0_count_3
def dkwX0_count_1 : List UInt8 := [170, 0, 0, 0, 0, 0, 126, 0, 0, 0, 0, 0, 0, 0, 9, 0, 0, 0, 55, 0, 0, 0, 63, 0, 0, 0, 68, 0, 0, 0, 76, 0, 0, 0, 84, 0, 0, 0, 92, 0, 0, 0, 97, 0, 0, 0, 105, 0, 0, 0, 113, 0, 0, 0, 121]
abbrev dktX0_count_1 : List UInt8 := dkwX0_count_1 ++ dktX0_count_2
def dkwX0_count_0 : List UInt8 := [27]
abbrev dktX0_count_0 : List UInt8 := dkwX0_count_0 ++ dktX0_count_1
theorem dksX0_count_0 : cX0_count.data.toList.drop 0 = dktX0_count_0 := by decide +kernel
theorem dksX0_count_1 : cX0_count.data.toList.drop 1 = dktX0_count_1 := dk_seg dksX0_count_0 1 rfl rfl
theorem dksX0_count_2 : cX0_count.data.toList.drop 56 = dktX0_count_2 := dk_seg dksX0_count_1 55 rfl rfl
theorem dksX0_count_3 : cX0_count.data.toList.drop 78 = dktX0_count_3 := dk_seg dksX0_count_2 22 rfl rfl
theorem dksX0_count_4 : cX0_count.data.toList.drop 102 = dktX0_count_4 := dk_seg dksX0_count_3 24 rfl rfl
theorem dksX0_count_5 : cX0_count.data.toList.drop 126 = dktX0_count_5 := dk_seg dksX0_count_4 24 rfl rfl
theorem dX0_count_0 : decode cX0_count 0 = .ok (.iload_n 1, 1) := dk_27 (dk_at dksX0_count_0 0 rfl rfl)
theorem dX0_count_1 : decode cX0_count 1 = .ok (.tableswitch 126 0 9 #[55, 63, 68, 76, 84, 92, 97, 105, 113, 121], 55) := by decide +kernel
theorem dX0_count_56 : decode cX0_count 56 = .ok (.aload_n 0, 1) := dk_42 (dk_at dksX0_count_2 0 rfl rfl)
theorem dX0_count_57 : decode cX0_count 57 = .ok (.getfield 34, 3) := dk_180 0 34 (dk_at dksX0_count_2 1 rfl rfl)
theorem dX0_count_60 : decode cX0_count 60 = .ok (.getfield 184, 3) := dk_180 0 184 (dk_at dksX0_count_2 4 rfl rfl)
theorem dX0_count_63 : decode cX0_count 63 = .ok (.ireturn, 1) := dk_172 (dk_at dksX0_count_2 7 rfl rfl)
theorem dX0_count_64 : decode cX0_count 64 = .ok (.aload_n 0, 1) := dk_42 (dk_at dksX0_count_2 8 rfl rfl)
theorem dX0_count_65 : decode cX0_count 65 = .ok (.invokevirtual 319, 3) := dk_182 1 63 (dk_at dksX0_count_2 9 rfl rfl)
theorem dX0_count_68 : decode cX0_count 68 = .ok (.ireturn, 1) := dk_172 (dk_at dksX0_count_2 12 rfl rfl)
theorem dX0_count_69 : decode cX0_count 69 = .ok (.aload_n 0, 1) := dk_42 (dk_at dksX0_count_2 13 rfl rfl)
theorem dX0_count_70 : decode cX0_count 70 = .ok (.getfield 34, 3) := dk_180 0 34 (dk_at dksX0_count_2 14 rfl rfl)
theorem dX0_count_73 : decode cX0_count 73 = .ok (.getfield 201, 3) := dk_180 0 201 (dk_at dksX0_count_2 17 rfl rfl)
theorem dX0_count_76 : decode cX0_count 76 = .ok (.ireturn, 1) := dk_172 (dk_at dksX0_count_2 20 rfl rfl)
theorem dX0_count_77 : decode cX0_count 77 = .ok (.aload_n 0, 1) := dk_42 (dk_at dksX0_count_2 21 rfl rfl)
theorem dX0_count_78 : decode cX0_count 78 = .ok (.getfield 34, 3) := dk_180 0 34 (dk_at dksX0_count_3 0 rfl rfl)
theorem dX0_count_81 : decode cX0_count 81 = .ok (.getfield 147, 3) := dk_180 0 147 (dk_at dksX0_count_3 3 rfl rfl)
theorem dX0_count_84 : decode cX0_count 84 = .ok (.ireturn, 1) := dk_172 (dk_at dksX0_count_3 6 rfl rfl)
theorem dX0_count_85 : decode cX0_count 85 = .ok (.aload_n 0, 1) := dk_42 (dk_at dksX0_count_3 7 rfl rfl)
theorem dX0_count_86 : decode cX0_count 86 = .ok (.getfield 51, 3) := dk_180 0 51 (dk_at dksX0_count_3 8 rfl rfl)
theorem dX0_count_89 : decode cX0_count 89 = .ok (.getfield 322, 3) := dk_180 1 66 (dk_at dksX0_count_3 11 rfl rfl)
theorem dX0_count_92 : decode cX0_count 92 = .ok (.ireturn, 1) := dk_172 (dk_at dksX0_count_3 14 rfl rfl)
theorem dX0_count_93 : decode cX0_count 93 = .ok (.aload_n 0, 1) := dk_42 (dk_at dksX0_count_3 15 rfl rfl)
theorem dX0_count_94 : decode cX0_count 94 = .ok (.getfield 156, 3) := dk_180 0 156 (dk_at dksX0_count_3 16 rfl rfl)
theorem dX0_count_97 : decode cX0_count 97 = .ok (.ireturn, 1) := dk_172 (dk_at dksX0_count_3 19 rfl rfl)
theorem dX0_count_98 : decode cX0_count 98 = .ok (.aload_n 0, 1) := dk_42 (dk_at dksX0_count_3 20 rfl rfl)
theorem dX0_count_99 : decode cX0_count 99 = .ok (.getfield 34, 3) := dk_180 0 34 (dk_at dksX0_count_3 21 rfl rfl)
theorem dX0_count_102 : decode cX0_count 102 = .ok (.getfield 55, 3) := dk_180 0 55 (dk_at dksX0_count_4 0 rfl rfl)
theorem dX0_count_105 : decode cX0_count 105 = .ok (.ireturn, 1) := dk_172 (dk_at dksX0_count_4 3 rfl rfl)
theorem dX0_count_106 : decode cX0_count 106 = .ok (.aload_n 0, 1) := dk_42 (dk_at dksX0_count_4 4 rfl rfl)
theorem dX0_count_107 : decode cX0_count 107 = .ok (.getfield 34, 3) := dk_180 0 34 (dk_at dksX0_count_4 5 rfl rfl)
theorem dX0_count_110 : decode cX0_count 110 = .ok (.getfield 127, 3) := dk_180 0 127 (dk_at dksX0_count_4 8 rfl rfl)
theorem dX0_count_113 : decode cX0_count 113 = .ok (.ireturn, 1) := dk_172 (dk_at dksX0_count_4 11 rfl rfl)
theorem dX0_count_114 : decode cX0_count 114 = .ok (.aload_n 0, 1) := dk_42 (dk_at dksX0_count_4 12 rfl rfl)
theorem dX0_count_115 : decode cX0_count 115 = .ok (.getfield 34, 3) := dk_180 0 34 (dk_at dksX0_count_4 13 rfl rfl)
theorem dX0_count_118 : decode cX0_count 118 = .ok (.getfield 323, 3) := dk_180 1 67 (dk_at dksX0_count_4 16 rfl rfl)
theorem dX0_count_121 : decode cX0_count 121 = .ok (.ireturn, 1) := dk_172 (dk_at dksX0_count_4 19 rfl rfl)
theorem dX0_count_122 : decode cX0_count 122 = .ok (.aload_n 0, 1) := dk_42 (dk_at dksX0_count_4 20 rfl rfl)
theorem dX0_count_123 : decode cX0_count 123 = .ok (.invokevirtual 326, 3) := dk_182 1 70 (dk_at dksX0_count_4 21 rfl rfl)
theorem dX0_count_126 : decode cX0_count 126 = .ok (.ireturn, 1) := dk_172 (dk_at dksX0_count_5 0 rfl rfl)
theorem dX0_count_127 : decode cX0_count 127 = .ok (.iconst (-1), 1) := dk_2 (dk_at dksX0_count_5 1 rfl rfl)
theorem dX0_count_128 : decode cX0_count 128 = .ok (.ireturn, 1) := dk_172 (dk_at dksX0_count_5 2 rfl rfl)
abbrev cX0_ups : ByteArray := prog_1_method_46_code
def yX0_ups : MethodName := ⟨RX0, "ups", "()I"⟩
def dkwX0_ups_1 : List UInt8 := [153, 0, 9, 4, 28, 120, 167, 0, 4, 3, 128, 60, 132, 2, 1, 167, 255, 222, 27, 172]
abbrev dktX0_ups_1 : List UInt8 := dkwX0_ups_1 ++ []
def dkwX0_ups_0 : List UInt8 := [3, 60, 3, 61, 28, 16, 7, 162, 0, 34, 27, 42, 180, 0, 34, 180, 0, 71, 28, 50, 180, 0, 75]
abbrev dktX0_ups_0 : List UInt8 := dkwX0_ups_0 ++ dktX0_ups_1
theorem dksX0_ups_0 : cX0_ups.data.toList.drop 0 = dktX0_ups_0 := by decide +kernel
theorem dksX0_ups_1 : cX0_ups.data.toList.drop 23 = dktX0_ups_1 := dk_seg dksX0_ups_0 23 rfl rfl
theorem dX0_ups_0 : decode cX0_ups 0 = .ok (.iconst 0, 1) := dk_3 (dk_at dksX0_ups_0 0 rfl rfl)
theorem dX0_ups_1 : decode cX0_ups 1 = .ok (.istore_n 1, 1) := dk_60 (dk_at dksX0_ups_0 1 rfl rfl)
theorem dX0_ups_2 : decode cX0_ups 2 = .ok (.iconst 0, 1) := dk_3 (dk_at dksX0_ups_0 2 rfl rfl)
theorem dX0_ups_3 : decode cX0_ups 3 = .ok (.istore_n 2, 1) := dk_61 (dk_at dksX0_ups_0 3 rfl rfl)
theorem dX0_ups_4 : decode cX0_ups 4 = .ok (.iload_n 2, 1) := dk_28 (dk_at dksX0_ups_0 4 rfl rfl)
theorem dX0_ups_5 : decode cX0_ups 5 = .ok (.bipush 7, 2) := dk_16 7 (dk_at dksX0_ups_0 5 rfl rfl)
theorem dX0_ups_7 : decode cX0_ups 7 = .ok (.if_icmp .ge 34, 3) := dk_162 0 34 (dk_at dksX0_ups_0 7 rfl rfl)
theorem dX0_ups_10 : decode cX0_ups 10 = .ok (.iload_n 1, 1) := dk_27 (dk_at dksX0_ups_0 10 rfl rfl)
theorem dX0_ups_11 : decode cX0_ups 11 = .ok (.aload_n 0, 1) := dk_42 (dk_at dksX0_ups_0 11 rfl rfl)
theorem dX0_ups_12 : decode cX0_ups 12 = .ok (.getfield 34, 3) := dk_180 0 34 (dk_at dksX0_ups_0 12 rfl rfl)
theorem dX0_ups_15 : decode cX0_ups 15 = .ok (.getfield 71, 3) := dk_180 0 71 (dk_at dksX0_ups_0 15 rfl rfl)
theorem dX0_ups_18 : decode cX0_ups 18 = .ok (.iload_n 2, 1) := dk_28 (dk_at dksX0_ups_0 18 rfl rfl)
theorem dX0_ups_19 : decode cX0_ups 19 = .ok (.aaload, 1) := dk_50 (dk_at dksX0_ups_0 19 rfl rfl)
theorem dX0_ups_20 : decode cX0_ups 20 = .ok (.getfield 75, 3) := dk_180 0 75 (dk_at dksX0_ups_0 20 rfl rfl)
theorem dX0_ups_23 : decode cX0_ups 23 = .ok (.ifCond .eq 9, 3) := dk_153 0 9 (dk_at dksX0_ups_1 0 rfl rfl)
theorem dX0_ups_26 : decode cX0_ups 26 = .ok (.iconst 1, 1) := dk_4 (dk_at dksX0_ups_1 3 rfl rfl)
theorem dX0_ups_27 : decode cX0_ups 27 = .ok (.iload_n 2, 1) := dk_28 (dk_at dksX0_ups_1 4 rfl rfl)
theorem dX0_ups_28 : decode cX0_ups 28 = .ok (.ishl, 1) := dk_120 (dk_at dksX0_ups_1 5 rfl rfl)
theorem dX0_ups_29 : decode cX0_ups 29 = .ok (.goto 4, 3) := dk_167 0 4 (dk_at dksX0_ups_1 6 rfl rfl)
theorem dX0_ups_32 : decode cX0_ups 32 = .ok (.iconst 0, 1) := dk_3 (dk_at dksX0_ups_1 9 rfl rfl)
theorem dX0_ups_33 : decode cX0_ups 33 = .ok (.ior, 1) := dk_128 (dk_at dksX0_ups_1 10 rfl rfl)
theorem dX0_ups_34 : decode cX0_ups 34 = .ok (.istore_n 1, 1) := dk_60 (dk_at dksX0_ups_1 11 rfl rfl)
theorem dX0_ups_35 : decode cX0_ups 35 = .ok (.iinc 2 1, 3) := dk_132 2 1 (dk_at dksX0_ups_1 12 rfl rfl)
theorem dX0_ups_38 : decode cX0_ups 38 = .ok (.goto (-34), 3) := dk_167 255 222 (dk_at dksX0_ups_1 15 rfl rfl)
theorem dX0_ups_41 : decode cX0_ups 41 = .ok (.iload_n 1, 1) := dk_27 (dk_at dksX0_ups_1 18 rfl rfl)
theorem dX0_ups_42 : decode cX0_ups 42 = .ok (.ireturn, 1) := dk_172 (dk_at dksX0_ups_1 19 rfl rfl)
abbrev cX0_cutLinks : ByteArray := prog_1_method_47_code
def yX0_cutLinks : MethodName := ⟨RX0, "cutLinks", "()I"⟩
def dkwX0_cutLinks_1 : List UInt8 := [21, 4, 46, 54, 5, 27, 21, 5, 184, 1, 58, 96, 60, 132, 4, 1, 167, 255, 233, 27, 5, 108, 172]
abbrev dktX0_cutLinks_1 : List UInt8 := dkwX0_cutLinks_1 ++ []
def dkwX0_cutLinks_0 : List UInt8 := [3, 60, 42, 180, 0, 34, 180, 0, 93, 77, 44, 190, 62, 3, 54, 4, 21, 4, 29, 162, 0, 23, 44]
abbrev dktX0_cutLinks_0 : List UInt8 := dkwX0_cutLinks_0 ++ dktX0_cutLinks_1
theorem dksX0_cutLinks_0 : cX0_cutLinks.data.toList.drop 0 = dktX0_cutLinks_0 := by decide +kernel
theorem dksX0_cutLinks_1 : cX0_cutLinks.data.toList.drop 23 = dktX0_cutLinks_1 := dk_seg dksX0_cutLinks_0 23 rfl rfl
theorem dX0_cutLinks_0 : decode cX0_cutLinks 0 = .ok (.iconst 0, 1) := dk_3 (dk_at dksX0_cutLinks_0 0 rfl rfl)
theorem dX0_cutLinks_1 : decode cX0_cutLinks 1 = .ok (.istore_n 1, 1) := dk_60 (dk_at dksX0_cutLinks_0 1 rfl rfl)
theorem dX0_cutLinks_2 : decode cX0_cutLinks 2 = .ok (.aload_n 0, 1) := dk_42 (dk_at dksX0_cutLinks_0 2 rfl rfl)
theorem dX0_cutLinks_3 : decode cX0_cutLinks 3 = .ok (.getfield 34, 3) := dk_180 0 34 (dk_at dksX0_cutLinks_0 3 rfl rfl)
theorem dX0_cutLinks_6 : decode cX0_cutLinks 6 = .ok (.getfield 93, 3) := dk_180 0 93 (dk_at dksX0_cutLinks_0 6 rfl rfl)
theorem dX0_cutLinks_9 : decode cX0_cutLinks 9 = .ok (.astore_n 2, 1) := dk_77 (dk_at dksX0_cutLinks_0 9 rfl rfl)
theorem dX0_cutLinks_10 : decode cX0_cutLinks 10 = .ok (.aload_n 2, 1) := dk_44 (dk_at dksX0_cutLinks_0 10 rfl rfl)
theorem dX0_cutLinks_11 : decode cX0_cutLinks 11 = .ok (.arraylength, 1) := dk_190 (dk_at dksX0_cutLinks_0 11 rfl rfl)
theorem dX0_cutLinks_12 : decode cX0_cutLinks 12 = .ok (.istore_n 3, 1) := dk_62 (dk_at dksX0_cutLinks_0 12 rfl rfl)
theorem dX0_cutLinks_13 : decode cX0_cutLinks 13 = .ok (.iconst 0, 1) := dk_3 (dk_at dksX0_cutLinks_0 13 rfl rfl)
theorem dX0_cutLinks_14 : decode cX0_cutLinks 14 = .ok (.istore 4, 2) := dk_54 4 (dk_at dksX0_cutLinks_0 14 rfl rfl)
theorem dX0_cutLinks_16 : decode cX0_cutLinks 16 = .ok (.iload 4, 2) := dk_21 4 (dk_at dksX0_cutLinks_0 16 rfl rfl)
theorem dX0_cutLinks_18 : decode cX0_cutLinks 18 = .ok (.iload_n 3, 1) := dk_29 (dk_at dksX0_cutLinks_0 18 rfl rfl)
theorem dX0_cutLinks_19 : decode cX0_cutLinks 19 = .ok (.if_icmp .ge 23, 3) := dk_162 0 23 (dk_at dksX0_cutLinks_0 19 rfl rfl)
theorem dX0_cutLinks_22 : decode cX0_cutLinks 22 = .ok (.aload_n 2, 1) := dk_44 (dk_at dksX0_cutLinks_0 22 rfl rfl)
theorem dX0_cutLinks_23 : decode cX0_cutLinks 23 = .ok (.iload 4, 2) := dk_21 4 (dk_at dksX0_cutLinks_1 0 rfl rfl)
theorem dX0_cutLinks_25 : decode cX0_cutLinks 25 = .ok (.iaload, 1) := dk_46 (dk_at dksX0_cutLinks_1 2 rfl rfl)
theorem dX0_cutLinks_26 : decode cX0_cutLinks 26 = .ok (.istore 5, 2) := dk_54 5 (dk_at dksX0_cutLinks_1 3 rfl rfl)
theorem dX0_cutLinks_28 : decode cX0_cutLinks 28 = .ok (.iload_n 1, 1) := dk_27 (dk_at dksX0_cutLinks_1 5 rfl rfl)
theorem dX0_cutLinks_29 : decode cX0_cutLinks 29 = .ok (.iload 5, 2) := dk_21 5 (dk_at dksX0_cutLinks_1 6 rfl rfl)
theorem dX0_cutLinks_31 : decode cX0_cutLinks 31 = .ok (.invokestatic 314, 3) := dk_184 1 58 (dk_at dksX0_cutLinks_1 8 rfl rfl)
theorem dX0_cutLinks_34 : decode cX0_cutLinks 34 = .ok (.iadd, 1) := dk_96 (dk_at dksX0_cutLinks_1 11 rfl rfl)
theorem dX0_cutLinks_35 : decode cX0_cutLinks 35 = .ok (.istore_n 1, 1) := dk_60 (dk_at dksX0_cutLinks_1 12 rfl rfl)
theorem dX0_cutLinks_36 : decode cX0_cutLinks 36 = .ok (.iinc 4 1, 3) := dk_132 4 1 (dk_at dksX0_cutLinks_1 13 rfl rfl)
theorem dX0_cutLinks_39 : decode cX0_cutLinks 39 = .ok (.goto (-23), 3) := dk_167 255 233 (dk_at dksX0_cutLinks_1 16 rfl rfl)
theorem dX0_cutLinks_42 : decode cX0_cutLinks 42 = .ok (.iload_n 1, 1) := dk_27 (dk_at dksX0_cutLinks_1 19 rfl rfl)
theorem dX0_cutLinks_43 : decode cX0_cutLinks 43 = .ok (.iconst 2, 1) := dk_5 (dk_at dksX0_cutLinks_1 20 rfl rfl)
theorem dX0_cutLinks_44 : decode cX0_cutLinks 44 = .ok (.idiv, 1) := dk_108 (dk_at dksX0_cutLinks_1 21 rfl rfl)
theorem dX0_cutLinks_45 : decode cX0_cutLinks 45 = .ok (.ireturn, 1) := dk_172 (dk_at dksX0_cutLinks_1 22 rfl rfl)
theorem q158 : (Jvm.Cond.initialized "TermLog") ∈ lw_all := lw_g (lw_at lw_m1 1 rfl) rfl
theorem q183 : (Jvm.Cond.instantiable "TermLog" (9 : Nat)) ∈ lw_all := lw_g (lw_at lw_m1 26 rfl) rfl
theorem q185 : (Jvm.Cond.instanceMethod ({ cls := "TermLog", name := "<init>", desc := "()V" } : Jvm.MethodName)) ∈ lw_all := lw_g (lw_at lw_m1 28 rfl) rfl
theorem q186 : (Jvm.Cond.code ({ cls := "TermLog", name := "<init>", desc := "()V" } : Jvm.MethodName) prog_1_method_7_code (1 : Nat) (Option.none : Option Jvm.ClassFile.FieldType)) ∈ lw_all := lw_g (lw_at lw_m1 29 rfl) rfl
theorem q187 : (Jvm.Cond.methodLink "TermLog" (16 : Nat) ({ cls := "java/lang/Object", name := "<init>", desc := "()V" } : Jvm.MethodName)) ∈ lw_all := lw_g (lw_at lw_m1 30 rfl) rfl
theorem q190 : (Jvm.Cond.classLink "TermLog" (22 : Nat) "TermLog$Moment") ∈ lw_all := lw_g (lw_at lw_m1 33 rfl) rfl
theorem q192 : (Jvm.Cond.methodLinkNest "TermLog" (24 : Nat) ({ cls := "TermLog$Moment", name := "<init>", desc := "()V" } : Jvm.MethodName) "TermLog") ∈ lw_tbl := lw_at lw_m1 35 rfl
theorem q226 : (Jvm.Cond.classLink "TermLog" (29 : Nat) "TermLog$Cluster") ∈ lw_all := lw_g (lw_at lw_m1 69 rfl) rfl
theorem q228 : (Jvm.Cond.methodLink "TermLog" (31 : Nat) ({ cls := "TermLog$Cluster", name := "<init>", desc := "(LTermLog;)V" } : Jvm.MethodName)) ∈ lw_all := lw_g (lw_at lw_m1 71 rfl) rfl
theorem q243 : (Jvm.Cond.fieldLinkNest "TermLog" (229 : Nat) "TermLog$Node" "terms" "[I" "TermLog") ∈ lw_tbl := lw_at lw_m1 86 rfl
theorem q246 : (Jvm.Cond.fieldLinkNest "TermLog" (232 : Nat) "TermLog$Node" "kinds" "[I" "TermLog") ∈ lw_tbl := lw_at lw_m1 89 rfl
theorem q249 : (Jvm.Cond.fieldLinkNest "TermLog" (235 : Nat) "TermLog$Node" "ones" "[I" "TermLog") ∈ lw_tbl := lw_at lw_m1 92 rfl
theorem q252 : (Jvm.Cond.fieldLinkNest "TermLog" (238 : Nat) "TermLog$Node" "others" "[I" "TermLog") ∈ lw_tbl := lw_at lw_m1 95 rfl
theorem q255 : (Jvm.Cond.fieldLinkNest "TermLog" (251 : Nat) "TermLog$Node" "keys" "[I" "TermLog") ∈ lw_tbl := lw_at lw_m1 98 rfl
theorem q258 : (Jvm.Cond.fieldLinkNest "TermLog" (248 : Nat) "TermLog$Node" "baseKeys" "[I" "TermLog") ∈ lw_tbl := lw_at lw_m1 101 rfl
theorem q261 : (Jvm.Cond.fieldLinkNest "TermLog" (254 : Nat) "TermLog$Node" "next" "[I" "TermLog") ∈ lw_tbl := lw_at lw_m1 104 rfl
theorem q264 : (Jvm.Cond.fieldLinkNest "TermLog" (257 : Nat) "TermLog$Node" "match" "[I" "TermLog") ∈ lw_tbl := lw_at lw_m1 107 rfl
theorem q267 : (Jvm.Cond.fieldLinkNest "TermLog" (260 : Nat) "TermLog$Node" "heard" "[I" "TermLog") ∈ lw_tbl := lw_at lw_m1 110 rfl
theorem q270 : (Jvm.Cond.fieldLinkNest "TermLog" (134 : Nat) "TermLog$Node" "term" "I" "TermLog") ∈ lw_tbl := lw_at lw_m1 113 rfl
theorem q273 : (Jvm.Cond.fieldLinkNest "TermLog" (207 : Nat) "TermLog$Node" "vote" "I" "TermLog") ∈ lw_tbl := lw_at lw_m1 116 rfl
theorem q276 : (Jvm.Cond.fieldLinkNest "TermLog" (100 : Nat) "TermLog$Node" "base" "I" "TermLog") ∈ lw_tbl := lw_at lw_m1 119 rfl
theorem q286 : (Jvm.Cond.fieldLinkNest "TermLog" (84 : Nat) "TermLog$Node" "role" "I" "TermLog") ∈ lw_tbl := lw_at lw_m1 129 rfl
theorem q290 : (Jvm.Cond.fieldLinkNest "TermLog" (97 : Nat) "TermLog$Node" "commit" "I" "TermLog") ∈ lw_tbl := lw_at lw_m1 133 rfl
theorem q293 : (Jvm.Cond.fieldLinkNest "TermLog" (220 : Nat) "TermLog$Node" "timer" "I" "TermLog") ∈ lw_tbl := lw_at lw_m1 136 rfl
theorem q296 : (Jvm.Cond.fieldLinkNest "TermLog" (223 : Nat) "TermLog$Node" "known" "I" "TermLog") ∈ lw_tbl := lw_at lw_m1 139 rfl
theorem q299 : (Jvm.Cond.fieldLinkNest "TermLog" (226 : Nat) "TermLog$Node" "votes" "I" "TermLog") ∈ lw_tbl := lw_at lw_m1 142 rfl
theorem q302 : (Jvm.Cond.fieldLinkNest "TermLog" (137 : Nat) "TermLog$Node" "round" "I" "TermLog") ∈ lw_tbl := lw_at lw_m1 145 rfl
theorem q304 : (Jvm.Cond.fieldLinkNest "TermLog" (140 : Nat) "TermLog$Node" "heart" "I" "TermLog") ∈ lw_tbl := lw_at lw_m1 147 rfl
theorem q307 : (Jvm.Cond.fieldLinkNest "TermLog" (75 : Nat) "TermLog$Node" "isUp" "Z" "TermLog") ∈ lw_tbl := lw_at lw_m1 150 rfl
theorem q360 : (Jvm.Cond.fieldLinkNest "TermLog" (71 : Nat) "TermLog$Cluster" "nodes" "[LTermLog$Node;" "TermLog") ∈ lw_tbl := lw_at lw_m1 203 rfl
theorem q362 : (Jvm.Cond.fieldLinkNest "TermLog" (263 : Nat) "TermLog$Cluster" "sent" "[[I" "TermLog") ∈ lw_tbl := lw_at lw_m1 205 rfl
theorem q364 : (Jvm.Cond.fieldLinkNest "TermLog" (266 : Nat) "TermLog$Cluster" "heldEntries" "[[I" "TermLog") ∈ lw_tbl := lw_at lw_m1 207 rfl
theorem q366 : (Jvm.Cond.fieldLinkNest "TermLog" (143 : Nat) "TermLog$Cluster" "reads" "[[I" "TermLog") ∈ lw_tbl := lw_at lw_m1 209 rfl
theorem q368 : (Jvm.Cond.fieldLinkNest "TermLog" (93 : Nat) "TermLog$Cluster" "cuts" "[I" "TermLog") ∈ lw_tbl := lw_at lw_m1 211 rfl
theorem q372 : (Jvm.Cond.fieldLinkNest "TermLog" (201 : Nat) "TermLog$Cluster" "many" "I" "TermLog") ∈ lw_tbl := lw_at lw_m1 215 rfl
theorem q374 : (Jvm.Cond.fieldLinkNest "TermLog" (184 : Nat) "TermLog$Cluster" "tick" "I" "TermLog") ∈ lw_tbl := lw_at lw_m1 217 rfl
theorem q376 : (Jvm.Cond.fieldLinkNest "TermLog" (55 : Nat) "TermLog$Cluster" "x" "I" "TermLog") ∈ lw_tbl := lw_at lw_m1 219 rfl
theorem q378 : (Jvm.Cond.fieldLinkNest "TermLog" (204 : Nat) "TermLog$Cluster" "broken" "I" "TermLog") ∈ lw_tbl := lw_at lw_m1 221 rfl
theorem q380 : (Jvm.Cond.fieldLinkNest "TermLog" (323 : Nat) "TermLog$Cluster" "lost" "I" "TermLog") ∈ lw_tbl := lw_at lw_m1 223 rfl
theorem q382 : (Jvm.Cond.fieldLinkNest "TermLog" (147 : Nat) "TermLog$Cluster" "greatest" "I" "TermLog") ∈ lw_tbl := lw_at lw_m1 225 rfl
theorem q383 : (Jvm.Cond.fieldLinkNest "TermLog" (191 : Nat) "TermLog$Cluster" "heldNow" "I" "TermLog") ∈ lw_tbl := lw_at lw_m1 226 rfl
theorem q386 : (Jvm.Cond.fieldLinkNest "TermLog" (127 : Nat) "TermLog$Cluster" "asked" "I" "TermLog") ∈ lw_tbl := lw_at lw_m1 229 rfl
theorem q424 : (Jvm.Cond.classLink "TermLog" (48 : Nat) "TermLog$Text") ∈ lw_all := lw_g (lw_at lw_m2 27 rfl) rfl
theorem q426 : (Jvm.Cond.methodLinkNest "TermLog" (50 : Nat) ({ cls := "TermLog$Text", name := "<init>", desc := "()V" } : Jvm.MethodName) "TermLog") ∈ lw_tbl := lw_at lw_m2 29 rfl
theorem q442 : (Jvm.Cond.fieldLinkNest "TermLog" (322 : Nat) "TermLog$Text" "many" "I" "TermLog") ∈ lw_tbl := lw_at lw_m2 45 rfl
theorem q453 : (Jvm.Cond.methodLink "TermLog" (59 : Nat) ({ cls := "TermLog$Cluster", name := "founded", desc := "(I)V" } : Jvm.MethodName)) ∈ lw_all := lw_g (lw_at lw_m2 56 rfl) rfl
theorem q537 : (Jvm.Cond.fieldLink "TermLog" (25 : Nat) "TermLog" "moment" "LTermLog$Moment;") ∈ lw_all := lw_g (lw_at lw_m2 140 rfl) rfl
theorem q538 : (Jvm.Cond.fieldLink "TermLog" (34 : Nat) "TermLog" "cluster" "LTermLog$Cluster;") ∈ lw_all := lw_g (lw_at lw_m2 141 rfl) rfl
theorem q539 : (Jvm.Cond.fieldLink "TermLog" (38 : Nat) "TermLog" "then" "LTermLog$Cluster;") ∈ lw_all := lw_g (lw_at lw_m2 142 rfl) rfl
theorem q540 : (Jvm.Cond.fieldLink "TermLog" (41 : Nat) "TermLog" "kept" "LTermLog$Cluster;") ∈ lw_all := lw_g (lw_at lw_m2 143 rfl) rfl
theorem q543 : (Jvm.Cond.fieldLink "TermLog" (44 : Nat) "TermLog" "tape" "[B") ∈ lw_all := lw_g (lw_at lw_m2 146 rfl) rfl
theorem q545 : (Jvm.Cond.fieldLink "TermLog" (51 : Nat) "TermLog" "law" "LTermLog$Text;") ∈ lw_all := lw_g (lw_at lw_m2 148 rfl) rfl
theorem q546 : (Jvm.Cond.fieldLink "TermLog" (156 : Nat) "TermLog" "taped" "I") ∈ lw_all := lw_g (lw_at lw_m2 149 rfl) rfl
theorem q547 : (Jvm.Cond.fieldLink "TermLog" (305 : Nat) "TermLog" "isKept" "Z") ∈ lw_all := lw_g (lw_at lw_m2 150 rfl) rfl
theorem q548 : (Jvm.Cond.fieldLink "TermLog" (173 : Nat) "TermLog" "ticked" "Z") ∈ lw_all := lw_g (lw_at lw_m2 151 rfl) rfl
theorem q549 : (Jvm.Cond.laysFinal "TermLog" "TermLog" "moment" "LTermLog$Moment;") ∈ lw_all := lw_g (lw_at lw_m2 152 rfl) rfl
theorem q550 : (Jvm.Cond.soleField "TermLog" "moment") ∈ lw_all := lw_g (lw_at lw_m2 153 rfl) rfl
theorem q551 : (Jvm.Cond.laysFinal "TermLog" "TermLog" "cluster" "LTermLog$Cluster;") ∈ lw_all := lw_g (lw_at lw_m2 154 rfl) rfl
theorem q552 : (Jvm.Cond.soleField "TermLog" "cluster") ∈ lw_all := lw_g (lw_at lw_m2 155 rfl) rfl
theorem q553 : (Jvm.Cond.laysFinal "TermLog" "TermLog" "then" "LTermLog$Cluster;") ∈ lw_all := lw_g (lw_at lw_m2 156 rfl) rfl
theorem q554 : (Jvm.Cond.soleField "TermLog" "then") ∈ lw_all := lw_g (lw_at lw_m2 157 rfl) rfl
theorem q555 : (Jvm.Cond.laysFinal "TermLog" "TermLog" "kept" "LTermLog$Cluster;") ∈ lw_all := lw_g (lw_at lw_m2 158 rfl) rfl
theorem q556 : (Jvm.Cond.soleField "TermLog" "kept") ∈ lw_all := lw_g (lw_at lw_m2 159 rfl) rfl
theorem q557 : (Jvm.Cond.laysFinal "TermLog" "TermLog" "tape" "[B") ∈ lw_all := lw_g (lw_at lw_m2 160 rfl) rfl
theorem q558 : (Jvm.Cond.soleField "TermLog" "tape") ∈ lw_all := lw_g (lw_at lw_m2 161 rfl) rfl
theorem q559 : (Jvm.Cond.lays "TermLog" "TermLog" "law" "LTermLog$Text;") ∈ lw_all := lw_g (lw_at lw_m2 162 rfl) rfl
theorem q560 : (Jvm.Cond.soleField "TermLog" "law") ∈ lw_all := lw_g (lw_at lw_m2 163 rfl) rfl
theorem q561 : (Jvm.Cond.lays "TermLog" "TermLog" "taped" "I") ∈ lw_all := lw_g (lw_at lw_m2 164 rfl) rfl
theorem q562 : (Jvm.Cond.soleField "TermLog" "taped") ∈ lw_all := lw_g (lw_at lw_m2 165 rfl) rfl
theorem q563 : (Jvm.Cond.lays "TermLog" "TermLog" "isKept" "Z") ∈ lw_all := lw_g (lw_at lw_m2 166 rfl) rfl
theorem q564 : (Jvm.Cond.soleField "TermLog" "isKept") ∈ lw_all := lw_g (lw_at lw_m2 167 rfl) rfl
theorem q565 : (Jvm.Cond.lays "TermLog" "TermLog" "ticked" "Z") ∈ lw_all := lw_g (lw_at lw_m2 168 rfl) rfl
theorem q566 : (Jvm.Cond.soleField "TermLog" "ticked") ∈ lw_all := lw_g (lw_at lw_m2 169 rfl) rfl
theorem q567 : (Jvm.Cond.superclass "TermLog" "java/lang/Object") ∈ lw_all := lw_g (lw_at lw_m2 170 rfl) rfl
theorem q569 : (Jvm.Cond.instanceMethod ({ cls := "TermLog", name := "found", desc := "(I)Z" } : Jvm.MethodName)) ∈ lw_all := lw_g (lw_at lw_m2 172 rfl) rfl
theorem q570 : (Jvm.Cond.selects "TermLog" ({ cls := "TermLog", name := "found", desc := "(I)Z" } : Jvm.MethodName) ({ cls := "TermLog", name := "found", desc := "(I)Z" } : Jvm.MethodName)) ∈ lw_all := lw_g (lw_at lw_m2 173 rfl) rfl
theorem q571 : (Jvm.Cond.code ({ cls := "TermLog", name := "found", desc := "(I)Z" } : Jvm.MethodName) prog_1_method_8_code (2 : Nat) (Option.some Jvm.ClassFile.FieldType.boolean)) ∈ lw_all := lw_g (lw_at lw_m2 174 rfl) rfl
theorem q572 : (Jvm.Cond.methodLink "TermLog" (63 : Nat) ({ cls := "TermLog", name := "within", desc := "(III)Z" } : Jvm.MethodName)) ∈ lw_all := lw_g (lw_at lw_m2 175 rfl) rfl
theorem q573 : (Jvm.Cond.static ({ cls := "TermLog", name := "within", desc := "(III)Z" } : Jvm.MethodName)) ∈ lw_all := lw_g (lw_at lw_m2 176 rfl) rfl
theorem q574 : (Jvm.Cond.code ({ cls := "TermLog", name := "within", desc := "(III)Z" } : Jvm.MethodName) prog_1_method_2_code (3 : Nat) (Option.some Jvm.ClassFile.FieldType.boolean)) ∈ lw_all := lw_g (lw_at lw_m2 177 rfl) rfl
theorem q576 : (Jvm.Cond.instanceMethod ({ cls := "TermLog", name := "crash", desc := "(I)Z" } : Jvm.MethodName)) ∈ lw_all := lw_g (lw_at lw_m2 179 rfl) rfl
theorem q577 : (Jvm.Cond.selects "TermLog" ({ cls := "TermLog", name := "crash", desc := "(I)Z" } : Jvm.MethodName) ({ cls := "TermLog", name := "crash", desc := "(I)Z" } : Jvm.MethodName)) ∈ lw_all := lw_g (lw_at lw_m2 180 rfl) rfl
theorem q578 : (Jvm.Cond.code ({ cls := "TermLog", name := "crash", desc := "(I)Z" } : Jvm.MethodName) prog_1_method_9_code (2 : Nat) (Option.some Jvm.ClassFile.FieldType.boolean)) ∈ lw_all := lw_g (lw_at lw_m2 181 rfl) rfl
theorem q579 : (Jvm.Cond.methodLink "TermLog" (67 : Nat) ({ cls := "TermLog", name := "isNode", desc := "(I)Z" } : Jvm.MethodName)) ∈ lw_all := lw_g (lw_at lw_m2 182 rfl) rfl
theorem q580 : (Jvm.Cond.static ({ cls := "TermLog", name := "isNode", desc := "(I)Z" } : Jvm.MethodName)) ∈ lw_all := lw_g (lw_at lw_m2 183 rfl) rfl
theorem q581 : (Jvm.Cond.code ({ cls := "TermLog", name := "isNode", desc := "(I)Z" } : Jvm.MethodName) prog_1_method_6_code (1 : Nat) (Option.some Jvm.ClassFile.FieldType.boolean)) ∈ lw_all := lw_g (lw_at lw_m2 184 rfl) rfl
theorem q582 : (Jvm.Cond.methodLink "TermLog" (12 : Nat) ({ cls := "TermLog", name := "in", desc := "(II)Z" } : Jvm.MethodName)) ∈ lw_all := lw_g (lw_at lw_m2 185 rfl) rfl
theorem q583 : (Jvm.Cond.static ({ cls := "TermLog", name := "in", desc := "(II)Z" } : Jvm.MethodName)) ∈ lw_all := lw_g (lw_at lw_m2 186 rfl) rfl
theorem q584 : (Jvm.Cond.code ({ cls := "TermLog", name := "in", desc := "(II)Z" } : Jvm.MethodName) prog_1_method_1_code (2 : Nat) (Option.some Jvm.ClassFile.FieldType.boolean)) ∈ lw_all := lw_g (lw_at lw_m2 187 rfl) rfl
theorem q585 : (Jvm.Cond.methodLink "TermLog" (81 : Nat) ({ cls := "TermLog$Cluster", name := "losesReads", desc := "(I)V" } : Jvm.MethodName)) ∈ lw_all := lw_g (lw_at lw_m2 188 rfl) rfl
theorem q590 : (Jvm.Cond.instanceMethod ({ cls := "TermLog", name := "comeUp", desc := "(I)Z" } : Jvm.MethodName)) ∈ lw_all := lw_g (lw_at lw_m2 193 rfl) rfl
theorem q591 : (Jvm.Cond.selects "TermLog" ({ cls := "TermLog", name := "comeUp", desc := "(I)Z" } : Jvm.MethodName) ({ cls := "TermLog", name := "comeUp", desc := "(I)Z" } : Jvm.MethodName)) ∈ lw_all := lw_g (lw_at lw_m2 194 rfl) rfl
theorem q592 : (Jvm.Cond.code ({ cls := "TermLog", name := "comeUp", desc := "(I)Z" } : Jvm.MethodName) prog_1_method_10_code (2 : Nat) (Option.some Jvm.ClassFile.FieldType.boolean)) ∈ lw_all := lw_g (lw_at lw_m2 195 rfl) rfl
theorem q593 : (Jvm.Cond.methodLink "TermLog" (87 : Nat) ({ cls := "TermLog$Node", name := "comesUp", desc := "()V" } : Jvm.MethodName)) ∈ lw_all := lw_g (lw_at lw_m2 196 rfl) rfl
theorem q594 : (Jvm.Cond.methodLink "TermLog" (90 : Nat) ({ cls := "TermLog$Cluster", name := "setsTimer", desc := "(I)V" } : Jvm.MethodName)) ∈ lw_all := lw_g (lw_at lw_m2 197 rfl) rfl
theorem q596 : (Jvm.Cond.instanceMethod ({ cls := "TermLog", name := "cut", desc := "(IIZ)Z" } : Jvm.MethodName)) ∈ lw_all := lw_g (lw_at lw_m2 199 rfl) rfl
theorem q597 : (Jvm.Cond.selects "TermLog" ({ cls := "TermLog", name := "cut", desc := "(IIZ)Z" } : Jvm.MethodName) ({ cls := "TermLog", name := "cut", desc := "(IIZ)Z" } : Jvm.MethodName)) ∈ lw_all := lw_g (lw_at lw_m2 200 rfl) rfl
theorem q598 : (Jvm.Cond.code ({ cls := "TermLog", name := "cut", desc := "(IIZ)Z" } : Jvm.MethodName) prog_1_method_11_code (4 : Nat) (Option.some Jvm.ClassFile.FieldType.boolean)) ∈ lw_all := lw_g (lw_at lw_m2 201 rfl) rfl
theorem q600 : (Jvm.Cond.instanceMethod ({ cls := "TermLog", name := "compact", desc := "(I)Z" } : Jvm.MethodName)) ∈ lw_all := lw_g (lw_at lw_m2 203 rfl) rfl
theorem q601 : (Jvm.Cond.selects "TermLog" ({ cls := "TermLog", name := "compact", desc := "(I)Z" } : Jvm.MethodName) ({ cls := "TermLog", name := "compact", desc := "(I)Z" } : Jvm.MethodName)) ∈ lw_all := lw_g (lw_at lw_m2 204 rfl) rfl
theorem q602 : (Jvm.Cond.code ({ cls := "TermLog", name := "compact", desc := "(I)Z" } : Jvm.MethodName) prog_1_method_12_code (2 : Nat) (Option.some Jvm.ClassFile.FieldType.boolean)) ∈ lw_all := lw_g (lw_at lw_m2 205 rfl) rfl
theorem q603 : (Jvm.Cond.methodLink "TermLog" (103 : Nat) ({ cls := "TermLog$Node", name := "compacts", desc := "()V" } : Jvm.MethodName)) ∈ lw_all := lw_g (lw_at lw_m2 206 rfl) rfl
theorem q632 : (Jvm.Cond.instanceMethod ({ cls := "TermLog", name := "write", desc := "(III)I" } : Jvm.MethodName)) ∈ lw_all := lw_g (lw_at lw_m2 235 rfl) rfl
theorem q633 : (Jvm.Cond.selects "TermLog" ({ cls := "TermLog", name := "write", desc := "(III)I" } : Jvm.MethodName) ({ cls := "TermLog", name := "write", desc := "(III)I" } : Jvm.MethodName)) ∈ lw_all := lw_g (lw_at lw_m2 236 rfl) rfl
theorem q634 : (Jvm.Cond.code ({ cls := "TermLog", name := "write", desc := "(III)I" } : Jvm.MethodName) prog_1_method_13_code (4 : Nat) (Option.some Jvm.ClassFile.FieldType.int)) ∈ lw_all := lw_g (lw_at lw_m2 237 rfl) rfl
theorem q635 : (Jvm.Cond.methodLink "TermLog" (106 : Nat) ({ cls := "TermLog$Cluster", name := "isLeader", desc := "(I)Z" } : Jvm.MethodName)) ∈ lw_all := lw_g (lw_at lw_m2 238 rfl) rfl
theorem q639 : (Jvm.Cond.methodLink "TermLog" (109 : Nat) ({ cls := "TermLog$Cluster", name := "isFull", desc := "(I)Z" } : Jvm.MethodName)) ∈ lw_all := lw_g (lw_at lw_m3 2 rfl) rfl
theorem q647 : (Jvm.Cond.methodLink "TermLog" (112 : Nat) ({ cls := "TermLog$Cluster", name := "laysFor", desc := "(IIII)I" } : Jvm.MethodName)) ∈ lw_all := lw_g (lw_at lw_m3 10 rfl) rfl
theorem q674 : (Jvm.Cond.static ({ cls := "TermLog", name := "has", desc := "(II)Z" } : Jvm.MethodName)) ∈ lw_all := lw_g (lw_at lw_m3 37 rfl) rfl
theorem q675 : (Jvm.Cond.code ({ cls := "TermLog", name := "has", desc := "(II)Z" } : Jvm.MethodName) prog_1_method_3_code (2 : Nat) (Option.some Jvm.ClassFile.FieldType.boolean)) ∈ lw_all := lw_g (lw_at lw_m3 38 rfl) rfl
theorem q694 : (Jvm.Cond.static ({ cls := "TermLog", name := "held", desc := "(II)I" } : Jvm.MethodName)) ∈ lw_all := lw_g (lw_at lw_m3 57 rfl) rfl
theorem q695 : (Jvm.Cond.code ({ cls := "TermLog", name := "held", desc := "(II)I" } : Jvm.MethodName) prog_1_method_4_code (2 : Nat) (Option.some Jvm.ClassFile.FieldType.int)) ∈ lw_all := lw_g (lw_at lw_m3 58 rfl) rfl
theorem q696 : (Jvm.Cond.methodLink "TermLog" (1 : Nat) ({ cls := "java/lang/Math", name := "min", desc := "(II)I" } : Jvm.MethodName)) ∈ lw_all := lw_g (lw_at lw_m3 59 rfl) rfl
theorem q697 : (Jvm.Cond.methodLink "TermLog" (7 : Nat) ({ cls := "java/lang/Math", name := "max", desc := "(II)I" } : Jvm.MethodName)) ∈ lw_all := lw_g (lw_at lw_m3 60 rfl) rfl
theorem q747 : (Jvm.Cond.instanceMethod ({ cls := "TermLog", name := "change", desc := "(II)I" } : Jvm.MethodName)) ∈ lw_all := lw_g (lw_at lw_m3 110 rfl) rfl
theorem q748 : (Jvm.Cond.selects "TermLog" ({ cls := "TermLog", name := "change", desc := "(II)I" } : Jvm.MethodName) ({ cls := "TermLog", name := "change", desc := "(II)I" } : Jvm.MethodName)) ∈ lw_all := lw_g (lw_at lw_m3 111 rfl) rfl
theorem q749 : (Jvm.Cond.code ({ cls := "TermLog", name := "change", desc := "(II)I" } : Jvm.MethodName) prog_1_method_14_code (4 : Nat) (Option.some Jvm.ClassFile.FieldType.int)) ∈ lw_all := lw_g (lw_at lw_m3 112 rfl) rfl
theorem q750 : (Jvm.Cond.methodLink "TermLog" (116 : Nat) ({ cls := "TermLog$Node", name := "news", desc := "()I" } : Jvm.MethodName)) ∈ lw_all := lw_g (lw_at lw_m3 113 rfl) rfl
theorem q751 : (Jvm.Cond.methodLink "TermLog" (120 : Nat) ({ cls := "TermLog$Node", name := "isConfigHeld", desc := "()Z" } : Jvm.MethodName)) ∈ lw_all := lw_g (lw_at lw_m3 114 rfl) rfl
theorem q752 : (Jvm.Cond.methodLink "TermLog" (124 : Nat) ({ cls := "TermLog$Node", name := "olds", desc := "()I" } : Jvm.MethodName)) ∈ lw_all := lw_g (lw_at lw_m3 115 rfl) rfl
theorem q754 : (Jvm.Cond.instanceMethod ({ cls := "TermLog", name := "ask", desc := "(II)I" } : Jvm.MethodName)) ∈ lw_all := lw_g (lw_at lw_m3 117 rfl) rfl
theorem q755 : (Jvm.Cond.selects "TermLog" ({ cls := "TermLog", name := "ask", desc := "(II)I" } : Jvm.MethodName) ({ cls := "TermLog", name := "ask", desc := "(II)I" } : Jvm.MethodName)) ∈ lw_all := lw_g (lw_at lw_m3 118 rfl) rfl
theorem q756 : (Jvm.Cond.code ({ cls := "TermLog", name := "ask", desc := "(II)I" } : Jvm.MethodName) prog_1_method_15_code (6 : Nat) (Option.some Jvm.ClassFile.FieldType.int)) ∈ lw_all := lw_g (lw_at lw_m3 119 rfl) rfl
theorem q757 : (Jvm.Cond.methodLink "TermLog" (130 : Nat) ({ cls := "TermLog$Node", name := "termAt", desc := "(I)I" } : Jvm.MethodName)) ∈ lw_all := lw_g (lw_at lw_m3 120 rfl) rfl
theorem q758 : (Jvm.Cond.methodLink "TermLog" (150 : Nat) ({ cls := "TermLog$Cluster", name := "sendsToAll", desc := "(I)V" } : Jvm.MethodName)) ∈ lw_all := lw_g (lw_at lw_m3 121 rfl) rfl
theorem q759 : (Jvm.Cond.methodLink "TermLog" (153 : Nat) ({ cls := "TermLog$Cluster", name := "answersReads", desc := "(I)V" } : Jvm.MethodName)) ∈ lw_all := lw_g (lw_at lw_m3 122 rfl) rfl
theorem q768 : (Jvm.Cond.instanceMethod ({ cls := "TermLog", name := "feed", desc := "(IIIII)I" } : Jvm.MethodName)) ∈ lw_all := lw_g (lw_at lw_m3 131 rfl) rfl
theorem q769 : (Jvm.Cond.selects "TermLog" ({ cls := "TermLog", name := "feed", desc := "(IIIII)I" } : Jvm.MethodName) ({ cls := "TermLog", name := "feed", desc := "(IIIII)I" } : Jvm.MethodName)) ∈ lw_all := lw_g (lw_at lw_m3 132 rfl) rfl
theorem q770 : (Jvm.Cond.code ({ cls := "TermLog", name := "feed", desc := "(IIIII)I" } : Jvm.MethodName) prog_1_method_17_code (6 : Nat) (Option.some Jvm.ClassFile.FieldType.int)) ∈ lw_all := lw_g (lw_at lw_m3 133 rfl) rfl
theorem q771 : (Jvm.Cond.methodLink "TermLog" (159 : Nat) ({ cls := "TermLog", name := "push", desc := "(I)V" } : Jvm.MethodName)) ∈ lw_all := lw_g (lw_at lw_m3 134 rfl) rfl
theorem q772 : (Jvm.Cond.privateMethod ({ cls := "TermLog", name := "push", desc := "(I)V" } : Jvm.MethodName)) ∈ lw_tbl := lw_at lw_m3 135 rfl
theorem q773 : (Jvm.Cond.instanceMethod ({ cls := "TermLog", name := "push", desc := "(I)V" } : Jvm.MethodName)) ∈ lw_all := lw_g (lw_at lw_m3 136 rfl) rfl
theorem q774 : (Jvm.Cond.code ({ cls := "TermLog", name := "push", desc := "(I)V" } : Jvm.MethodName) prog_1_method_16_code (3 : Nat) (Option.none : Option Jvm.ClassFile.FieldType)) ∈ lw_all := lw_g (lw_at lw_m3 137 rfl) rfl
theorem q776 : (Jvm.Cond.instanceMethod ({ cls := "TermLog", name := "law", desc := "(I)I" } : Jvm.MethodName)) ∈ lw_all := lw_g (lw_at lw_m3 139 rfl) rfl
theorem q777 : (Jvm.Cond.selects "TermLog" ({ cls := "TermLog", name := "law", desc := "(I)I" } : Jvm.MethodName) ({ cls := "TermLog", name := "law", desc := "(I)I" } : Jvm.MethodName)) ∈ lw_all := lw_g (lw_at lw_m3 140 rfl) rfl
theorem q778 : (Jvm.Cond.code ({ cls := "TermLog", name := "law", desc := "(I)I" } : Jvm.MethodName) prog_1_method_18_code (4 : Nat) (Option.some Jvm.ClassFile.FieldType.int)) ∈ lw_all := lw_g (lw_at lw_m3 141 rfl) rfl
theorem q779 : (Jvm.Cond.classLink "TermLog" (162 : Nat) "TermLog$Reader") ∈ lw_all := lw_g (lw_at lw_m3 142 rfl) rfl
theorem q781 : (Jvm.Cond.methodLink "TermLog" (164 : Nat) ({ cls := "TermLog$Reader", name := "<init>", desc := "(LTermLog;I)V" } : Jvm.MethodName)) ∈ lw_all := lw_g (lw_at lw_m3 144 rfl) rfl
theorem q789 : (Jvm.Cond.fieldLinkNest "TermLog" (170 : Nat) "TermLog$Reader" "text" "LTermLog$Text;" "TermLog") ∈ lw_tbl := lw_at lw_m3 152 rfl
theorem q810 : (Jvm.Cond.methodLink "TermLog" (167 : Nat) ({ cls := "TermLog$Reader", name := "read", desc := "()I" } : Jvm.MethodName)) ∈ lw_all := lw_g (lw_at lw_m3 173 rfl) rfl
theorem q1041 : (Jvm.Cond.instanceMethod ({ cls := "TermLog", name := "plan", desc := "(I)I" } : Jvm.MethodName)) ∈ lw_all := lw_g (lw_at lw_m4 164 rfl) rfl
theorem q1042 : (Jvm.Cond.selects "TermLog" ({ cls := "TermLog", name := "plan", desc := "(I)I" } : Jvm.MethodName) ({ cls := "TermLog", name := "plan", desc := "(I)I" } : Jvm.MethodName)) ∈ lw_all := lw_g (lw_at lw_m4 165 rfl) rfl
theorem q1043 : (Jvm.Cond.code ({ cls := "TermLog", name := "plan", desc := "(I)I" } : Jvm.MethodName) prog_1_method_20_code (6 : Nat) (Option.some Jvm.ClassFile.FieldType.int)) ∈ lw_all := lw_g (lw_at lw_m4 166 rfl) rfl
theorem q1044 : (Jvm.Cond.classLink "TermLog" (176 : Nat) "TermLog$Planner") ∈ lw_all := lw_g (lw_at lw_m4 167 rfl) rfl
theorem q1046 : (Jvm.Cond.methodLink "TermLog" (178 : Nat) ({ cls := "TermLog$Planner", name := "<init>", desc := "(LTermLog;I)V" } : Jvm.MethodName)) ∈ lw_all := lw_g (lw_at lw_m4 169 rfl) rfl
theorem q1084 : (Jvm.Cond.methodLink "TermLog" (179 : Nat) ({ cls := "TermLog$Planner", name := "reads", desc := "()I" } : Jvm.MethodName)) ∈ lw_all := lw_g (lw_at lw_m4 207 rfl) rfl
theorem q1123 : (Jvm.Cond.methodLink "TermLog" (181 : Nat) ({ cls := "TermLog$Planner", name := "isDone", desc := "(I)Z" } : Jvm.MethodName)) ∈ lw_all := lw_g (lw_at lw_m5 6 rfl) rfl
theorem q1128 : (Jvm.Cond.instanceMethod ({ cls := "TermLog", name := "ticks", desc := "(I)I" } : Jvm.MethodName)) ∈ lw_all := lw_g (lw_at lw_m5 11 rfl) rfl
theorem q1129 : (Jvm.Cond.selects "TermLog" ({ cls := "TermLog", name := "ticks", desc := "(I)I" } : Jvm.MethodName) ({ cls := "TermLog", name := "ticks", desc := "(I)I" } : Jvm.MethodName)) ∈ lw_all := lw_g (lw_at lw_m5 12 rfl) rfl
theorem q1130 : (Jvm.Cond.code ({ cls := "TermLog", name := "ticks", desc := "(I)I" } : Jvm.MethodName) prog_1_method_21_code (2 : Nat) (Option.some Jvm.ClassFile.FieldType.int)) ∈ lw_all := lw_g (lw_at lw_m5 13 rfl) rfl
theorem q1131 : (Jvm.Cond.methodLink "TermLog" (187 : Nat) ({ cls := "TermLog$Cluster", name := "goes", desc := "(I)LTermLog$Cluster;" } : Jvm.MethodName)) ∈ lw_all := lw_g (lw_at lw_m5 14 rfl) rfl
theorem q1215 : (Jvm.Cond.privateMethod ({ cls := "TermLog", name := "isTicked", desc := "()Z" } : Jvm.MethodName)) ∈ lw_tbl := lw_at lw_m5 98 rfl
theorem q1216 : (Jvm.Cond.instanceMethod ({ cls := "TermLog", name := "isTicked", desc := "()Z" } : Jvm.MethodName)) ∈ lw_all := lw_g (lw_at lw_m5 99 rfl) rfl
theorem q1217 : (Jvm.Cond.code ({ cls := "TermLog", name := "isTicked", desc := "()Z" } : Jvm.MethodName) prog_1_method_19_code (1 : Nat) (Option.some Jvm.ClassFile.FieldType.boolean)) ∈ lw_all := lw_g (lw_at lw_m5 100 rfl) rfl
theorem q1226 : (Jvm.Cond.instanceMethod ({ cls := "TermLog", name := "tried", desc := "(II)I" } : Jvm.MethodName)) ∈ lw_all := lw_g (lw_at lw_m5 109 rfl) rfl
theorem q1227 : (Jvm.Cond.selects "TermLog" ({ cls := "TermLog", name := "tried", desc := "(II)I" } : Jvm.MethodName) ({ cls := "TermLog", name := "tried", desc := "(II)I" } : Jvm.MethodName)) ∈ lw_all := lw_g (lw_at lw_m5 110 rfl) rfl
theorem q1228 : (Jvm.Cond.code ({ cls := "TermLog", name := "tried", desc := "(II)I" } : Jvm.MethodName) prog_1_method_22_code (3 : Nat) (Option.some Jvm.ClassFile.FieldType.int)) ∈ lw_all := lw_g (lw_at lw_m5 111 rfl) rfl
theorem q1229 : (Jvm.Cond.methodLink "TermLog" (194 : Nat) ({ cls := "TermLog$Cluster", name := "takes", desc := "(LTermLog$Cluster;)LTermLog$Cluster;" } : Jvm.MethodName)) ∈ lw_all := lw_g (lw_at lw_m5 112 rfl) rfl
theorem q1237 : (Jvm.Cond.methodLink "TermLog" (198 : Nat) ({ cls := "TermLog$Cluster", name := "leads", desc := "()I" } : Jvm.MethodName)) ∈ lw_all := lw_g (lw_at lw_m5 120 rfl) rfl
theorem q1242 : (Jvm.Cond.instanceMethod ({ cls := "TermLog", name := "nodeIs", desc := "(II)I" } : Jvm.MethodName)) ∈ lw_all := lw_g (lw_at lw_m5 125 rfl) rfl
theorem q1243 : (Jvm.Cond.selects "TermLog" ({ cls := "TermLog", name := "nodeIs", desc := "(II)I" } : Jvm.MethodName) ({ cls := "TermLog", name := "nodeIs", desc := "(II)I" } : Jvm.MethodName)) ∈ lw_all := lw_g (lw_at lw_m5 126 rfl) rfl
theorem q1244 : (Jvm.Cond.code ({ cls := "TermLog", name := "nodeIs", desc := "(II)I" } : Jvm.MethodName) prog_1_method_24_code (4 : Nat) (Option.some Jvm.ClassFile.FieldType.int)) ∈ lw_all := lw_g (lw_at lw_m5 127 rfl) rfl
theorem q1245 : (Jvm.Cond.methodLink "TermLog" (210 : Nat) ({ cls := "TermLog", name := "orNone", desc := "(I)I" } : Jvm.MethodName)) ∈ lw_all := lw_g (lw_at lw_m5 128 rfl) rfl
theorem q1246 : (Jvm.Cond.static ({ cls := "TermLog", name := "orNone", desc := "(I)I" } : Jvm.MethodName)) ∈ lw_all := lw_g (lw_at lw_m5 129 rfl) rfl
theorem q1247 : (Jvm.Cond.code ({ cls := "TermLog", name := "orNone", desc := "(I)I" } : Jvm.MethodName) prog_1_method_5_code (1 : Nat) (Option.some Jvm.ClassFile.FieldType.int)) ∈ lw_all := lw_g (lw_at lw_m5 130 rfl) rfl
theorem q1248 : (Jvm.Cond.methodLink "TermLog" (213 : Nat) ({ cls := "TermLog", name := "ofUp", desc := "(LTermLog$Node;I)I" } : Jvm.MethodName)) ∈ lw_all := lw_g (lw_at lw_m5 131 rfl) rfl
theorem q1249 : (Jvm.Cond.static ({ cls := "TermLog", name := "ofUp", desc := "(LTermLog$Node;I)I" } : Jvm.MethodName)) ∈ lw_all := lw_g (lw_at lw_m5 132 rfl) rfl
theorem q1250 : (Jvm.Cond.code ({ cls := "TermLog", name := "ofUp", desc := "(LTermLog$Node;I)I" } : Jvm.MethodName) prog_1_method_23_code (2 : Nat) (Option.some Jvm.ClassFile.FieldType.int)) ∈ lw_all := lw_g (lw_at lw_m5 133 rfl) rfl
theorem q1251 : (Jvm.Cond.methodLink "TermLog" (217 : Nat) ({ cls := "TermLog$Node", name := "last", desc := "()I" } : Jvm.MethodName)) ∈ lw_all := lw_g (lw_at lw_m5 134 rfl) rfl
theorem q1253 : (Jvm.Cond.instanceMethod ({ cls := "TermLog", name := "entryAt", desc := "(III)I" } : Jvm.MethodName)) ∈ lw_all := lw_g (lw_at lw_m5 136 rfl) rfl
theorem q1254 : (Jvm.Cond.selects "TermLog" ({ cls := "TermLog", name := "entryAt", desc := "(III)I" } : Jvm.MethodName) ({ cls := "TermLog", name := "entryAt", desc := "(III)I" } : Jvm.MethodName)) ∈ lw_all := lw_g (lw_at lw_m5 137 rfl) rfl
theorem q1255 : (Jvm.Cond.code ({ cls := "TermLog", name := "entryAt", desc := "(III)I" } : Jvm.MethodName) prog_1_method_26_code (5 : Nat) (Option.some Jvm.ClassFile.FieldType.int)) ∈ lw_all := lw_g (lw_at lw_m5 138 rfl) rfl
theorem q1256 : (Jvm.Cond.methodLink "TermLog" (241 : Nat) ({ cls := "TermLog$Node", name := "hasEntry", desc := "(I)Z" } : Jvm.MethodName)) ∈ lw_all := lw_g (lw_at lw_m5 139 rfl) rfl
theorem q1257 : (Jvm.Cond.methodLink "TermLog" (244 : Nat) ({ cls := "TermLog", name := "partOf", desc := "(LTermLog$Node;II)I" } : Jvm.MethodName)) ∈ lw_all := lw_g (lw_at lw_m5 140 rfl) rfl
theorem q1258 : (Jvm.Cond.static ({ cls := "TermLog", name := "partOf", desc := "(LTermLog$Node;II)I" } : Jvm.MethodName)) ∈ lw_all := lw_g (lw_at lw_m5 141 rfl) rfl
theorem q1259 : (Jvm.Cond.code ({ cls := "TermLog", name := "partOf", desc := "(LTermLog$Node;II)I" } : Jvm.MethodName) prog_1_method_25_code (4 : Nat) (Option.some Jvm.ClassFile.FieldType.int)) ∈ lw_all := lw_g (lw_at lw_m5 142 rfl) rfl
theorem q1261 : (Jvm.Cond.instanceMethod ({ cls := "TermLog", name := "keyOf", desc := "(II)I" } : Jvm.MethodName)) ∈ lw_all := lw_g (lw_at lw_m5 144 rfl) rfl
theorem q1262 : (Jvm.Cond.selects "TermLog" ({ cls := "TermLog", name := "keyOf", desc := "(II)I" } : Jvm.MethodName) ({ cls := "TermLog", name := "keyOf", desc := "(II)I" } : Jvm.MethodName)) ∈ lw_all := lw_g (lw_at lw_m5 145 rfl) rfl
theorem q1263 : (Jvm.Cond.code ({ cls := "TermLog", name := "keyOf", desc := "(II)I" } : Jvm.MethodName) prog_1_method_27_code (4 : Nat) (Option.some Jvm.ClassFile.FieldType.int)) ∈ lw_all := lw_g (lw_at lw_m5 146 rfl) rfl
theorem q1265 : (Jvm.Cond.instanceMethod ({ cls := "TermLog", name := "about", desc := "(III)I" } : Jvm.MethodName)) ∈ lw_all := lw_g (lw_at lw_m5 148 rfl) rfl
theorem q1266 : (Jvm.Cond.selects "TermLog" ({ cls := "TermLog", name := "about", desc := "(III)I" } : Jvm.MethodName) ({ cls := "TermLog", name := "about", desc := "(III)I" } : Jvm.MethodName)) ∈ lw_all := lw_g (lw_at lw_m5 149 rfl) rfl
theorem q1267 : (Jvm.Cond.code ({ cls := "TermLog", name := "about", desc := "(III)I" } : Jvm.MethodName) prog_1_method_28_code (5 : Nat) (Option.some Jvm.ClassFile.FieldType.int)) ∈ lw_all := lw_g (lw_at lw_m5 150 rfl) rfl
theorem q1269 : (Jvm.Cond.instanceMethod ({ cls := "TermLog", name := "message", desc := "(II)I" } : Jvm.MethodName)) ∈ lw_all := lw_g (lw_at lw_m5 152 rfl) rfl
theorem q1270 : (Jvm.Cond.selects "TermLog" ({ cls := "TermLog", name := "message", desc := "(II)I" } : Jvm.MethodName) ({ cls := "TermLog", name := "message", desc := "(II)I" } : Jvm.MethodName)) ∈ lw_all := lw_g (lw_at lw_m5 153 rfl) rfl
theorem q1271 : (Jvm.Cond.code ({ cls := "TermLog", name := "message", desc := "(II)I" } : Jvm.MethodName) prog_1_method_29_code (3 : Nat) (Option.some Jvm.ClassFile.FieldType.int)) ∈ lw_all := lw_g (lw_at lw_m5 154 rfl) rfl
theorem q1273 : (Jvm.Cond.instanceMethod ({ cls := "TermLog", name := "leaderNow", desc := "()I" } : Jvm.MethodName)) ∈ lw_all := lw_g (lw_at lw_m5 156 rfl) rfl
theorem q1274 : (Jvm.Cond.selects "TermLog" ({ cls := "TermLog", name := "leaderNow", desc := "()I" } : Jvm.MethodName) ({ cls := "TermLog", name := "leaderNow", desc := "()I" } : Jvm.MethodName)) ∈ lw_all := lw_g (lw_at lw_m5 157 rfl) rfl
theorem q1275 : (Jvm.Cond.code ({ cls := "TermLog", name := "leaderNow", desc := "()I" } : Jvm.MethodName) prog_1_method_30_code (1 : Nat) (Option.some Jvm.ClassFile.FieldType.int)) ∈ lw_all := lw_g (lw_at lw_m5 158 rfl) rfl
theorem q1277 : (Jvm.Cond.instanceMethod ({ cls := "TermLog", name := "heldAt", desc := "(II)I" } : Jvm.MethodName)) ∈ lw_all := lw_g (lw_at lw_m5 160 rfl) rfl
theorem q1278 : (Jvm.Cond.selects "TermLog" ({ cls := "TermLog", name := "heldAt", desc := "(II)I" } : Jvm.MethodName) ({ cls := "TermLog", name := "heldAt", desc := "(II)I" } : Jvm.MethodName)) ∈ lw_all := lw_g (lw_at lw_m5 161 rfl) rfl
theorem q1279 : (Jvm.Cond.code ({ cls := "TermLog", name := "heldAt", desc := "(II)I" } : Jvm.MethodName) prog_1_method_31_code (3 : Nat) (Option.some Jvm.ClassFile.FieldType.int)) ∈ lw_all := lw_g (lw_at lw_m5 162 rfl) rfl
theorem q1281 : (Jvm.Cond.instanceMethod ({ cls := "TermLog", name := "readIs", desc := "(II)I" } : Jvm.MethodName)) ∈ lw_all := lw_g (lw_at lw_m5 164 rfl) rfl
theorem q1282 : (Jvm.Cond.selects "TermLog" ({ cls := "TermLog", name := "readIs", desc := "(II)I" } : Jvm.MethodName) ({ cls := "TermLog", name := "readIs", desc := "(II)I" } : Jvm.MethodName)) ∈ lw_all := lw_g (lw_at lw_m5 165 rfl) rfl
theorem q1283 : (Jvm.Cond.code ({ cls := "TermLog", name := "readIs", desc := "(II)I" } : Jvm.MethodName) prog_1_method_32_code (4 : Nat) (Option.some Jvm.ClassFile.FieldType.int)) ∈ lw_all := lw_g (lw_at lw_m5 166 rfl) rfl
theorem q1285 : (Jvm.Cond.instanceMethod ({ cls := "TermLog", name := "broken", desc := "(I)I" } : Jvm.MethodName)) ∈ lw_all := lw_g (lw_at lw_m5 168 rfl) rfl
theorem q1286 : (Jvm.Cond.selects "TermLog" ({ cls := "TermLog", name := "broken", desc := "(I)I" } : Jvm.MethodName) ({ cls := "TermLog", name := "broken", desc := "(I)I" } : Jvm.MethodName)) ∈ lw_all := lw_g (lw_at lw_m5 169 rfl) rfl
theorem q1287 : (Jvm.Cond.code ({ cls := "TermLog", name := "broken", desc := "(I)I" } : Jvm.MethodName) prog_1_method_35_code (5 : Nat) (Option.some Jvm.ClassFile.FieldType.int)) ∈ lw_all := lw_g (lw_at lw_m5 170 rfl) rfl
theorem q1288 : (Jvm.Cond.methodLink "TermLog" (273 : Nat) ({ cls := "TermLog", name := "areMatched", desc := "(LTermLog$Node;LTermLog$Node;)Z" } : Jvm.MethodName)) ∈ lw_all := lw_g (lw_at lw_m5 171 rfl) rfl
theorem q1289 : (Jvm.Cond.static ({ cls := "TermLog", name := "areMatched", desc := "(LTermLog$Node;LTermLog$Node;)Z" } : Jvm.MethodName)) ∈ lw_all := lw_g (lw_at lw_m5 172 rfl) rfl
theorem q1290 : (Jvm.Cond.code ({ cls := "TermLog", name := "areMatched", desc := "(LTermLog$Node;LTermLog$Node;)Z" } : Jvm.MethodName) prog_1_method_33_code (4 : Nat) (Option.some Jvm.ClassFile.FieldType.boolean)) ∈ lw_all := lw_g (lw_at lw_m5 173 rfl) rfl
theorem q1291 : (Jvm.Cond.methodLink "TermLog" (269 : Nat) ({ cls := "TermLog$Node", name := "isAlike", desc := "(LTermLog$Node;I)Z" } : Jvm.MethodName)) ∈ lw_all := lw_g (lw_at lw_m5 174 rfl) rfl
theorem q1295 : (Jvm.Cond.methodLink "TermLog" (277 : Nat) ({ cls := "TermLog", name := "areAlike", desc := "(LTermLog$Node;LTermLog$Node;)Z" } : Jvm.MethodName)) ∈ lw_all := lw_g (lw_at lw_m5 178 rfl) rfl
theorem q1296 : (Jvm.Cond.static ({ cls := "TermLog", name := "areAlike", desc := "(LTermLog$Node;LTermLog$Node;)Z" } : Jvm.MethodName)) ∈ lw_all := lw_g (lw_at lw_m5 179 rfl) rfl
theorem q1297 : (Jvm.Cond.code ({ cls := "TermLog", name := "areAlike", desc := "(LTermLog$Node;LTermLog$Node;)Z" } : Jvm.MethodName) prog_1_method_34_code (3 : Nat) (Option.some Jvm.ClassFile.FieldType.boolean)) ∈ lw_all := lw_g (lw_at lw_m5 180 rfl) rfl
theorem q1299 : (Jvm.Cond.instanceMethod ({ cls := "TermLog", name := "couldWin", desc := "(II)I" } : Jvm.MethodName)) ∈ lw_all := lw_g (lw_at lw_m5 182 rfl) rfl
theorem q1300 : (Jvm.Cond.selects "TermLog" ({ cls := "TermLog", name := "couldWin", desc := "(II)I" } : Jvm.MethodName) ({ cls := "TermLog", name := "couldWin", desc := "(II)I" } : Jvm.MethodName)) ∈ lw_all := lw_g (lw_at lw_m5 183 rfl) rfl
theorem q1301 : (Jvm.Cond.code ({ cls := "TermLog", name := "couldWin", desc := "(II)I" } : Jvm.MethodName) prog_1_method_37_code (6 : Nat) (Option.some Jvm.ClassFile.FieldType.int)) ∈ lw_all := lw_g (lw_at lw_m5 184 rfl) rfl
theorem q1302 : (Jvm.Cond.methodLink "TermLog" (286 : Nat) ({ cls := "TermLog$Node", name := "members", desc := "()I" } : Jvm.MethodName)) ∈ lw_all := lw_g (lw_at lw_m5 185 rfl) rfl
theorem q1303 : (Jvm.Cond.methodLink "TermLog" (289 : Nat) ({ cls := "TermLog", name := "has", desc := "(II)Z" } : Jvm.MethodName)) ∈ lw_all := lw_g (lw_at lw_m5 186 rfl) rfl
theorem q1304 : (Jvm.Cond.methodLink "TermLog" (292 : Nat) ({ cls := "TermLog", name := "wouldGrant", desc := "(II)Z" } : Jvm.MethodName)) ∈ lw_all := lw_g (lw_at lw_m5 187 rfl) rfl
theorem q1305 : (Jvm.Cond.privateMethod ({ cls := "TermLog", name := "wouldGrant", desc := "(II)Z" } : Jvm.MethodName)) ∈ lw_tbl := lw_at lw_m5 188 rfl
theorem q1306 : (Jvm.Cond.instanceMethod ({ cls := "TermLog", name := "wouldGrant", desc := "(II)Z" } : Jvm.MethodName)) ∈ lw_all := lw_g (lw_at lw_m5 189 rfl) rfl
theorem q1307 : (Jvm.Cond.code ({ cls := "TermLog", name := "wouldGrant", desc := "(II)Z" } : Jvm.MethodName) prog_1_method_36_code (6 : Nat) (Option.some Jvm.ClassFile.FieldType.boolean)) ∈ lw_all := lw_g (lw_at lw_m5 190 rfl) rfl
theorem q1308 : (Jvm.Cond.methodLinkNest "TermLog" (280 : Nat) ({ cls := "TermLog$Cluster", name := "areLinked", desc := "(II)Z" } : Jvm.MethodName) "TermLog") ∈ lw_tbl := lw_at lw_m5 191 rfl
theorem q1309 : (Jvm.Cond.methodLink "TermLog" (283 : Nat) ({ cls := "TermLog$Node", name := "isNoLess", desc := "(II)Z" } : Jvm.MethodName)) ∈ lw_all := lw_g (lw_at lw_m5 192 rfl) rfl
theorem q1310 : (Jvm.Cond.methodLink "TermLog" (295 : Nat) ({ cls := "TermLog$Node", name := "isMajority", desc := "(I)Z" } : Jvm.MethodName)) ∈ lw_all := lw_g (lw_at lw_m5 193 rfl) rfl
theorem q1312 : (Jvm.Cond.instanceMethod ({ cls := "TermLog", name := "majority", desc := "(II)I" } : Jvm.MethodName)) ∈ lw_all := lw_g (lw_at lw_m5 195 rfl) rfl
theorem q1313 : (Jvm.Cond.selects "TermLog" ({ cls := "TermLog", name := "majority", desc := "(II)I" } : Jvm.MethodName) ({ cls := "TermLog", name := "majority", desc := "(II)I" } : Jvm.MethodName)) ∈ lw_all := lw_g (lw_at lw_m5 196 rfl) rfl
theorem q1314 : (Jvm.Cond.code ({ cls := "TermLog", name := "majority", desc := "(II)I" } : Jvm.MethodName) prog_1_method_38_code (3 : Nat) (Option.some Jvm.ClassFile.FieldType.int)) ∈ lw_all := lw_g (lw_at lw_m5 197 rfl) rfl
theorem q1316 : (Jvm.Cond.instanceMethod ({ cls := "TermLog", name := "till", desc := "(II)I" } : Jvm.MethodName)) ∈ lw_all := lw_g (lw_at lw_m5 199 rfl) rfl
theorem q1317 : (Jvm.Cond.selects "TermLog" ({ cls := "TermLog", name := "till", desc := "(II)I" } : Jvm.MethodName) ({ cls := "TermLog", name := "till", desc := "(II)I" } : Jvm.MethodName)) ∈ lw_all := lw_g (lw_at lw_m5 200 rfl) rfl
theorem q1318 : (Jvm.Cond.code ({ cls := "TermLog", name := "till", desc := "(II)I" } : Jvm.MethodName) prog_1_method_39_code (5 : Nat) (Option.some Jvm.ClassFile.FieldType.int)) ∈ lw_all := lw_g (lw_at lw_m5 201 rfl) rfl
theorem q1319 : (Jvm.Cond.methodLink "TermLog" (298 : Nat) ({ cls := "TermLog$Cluster", name := "haveAllHeld", desc := "()Z" } : Jvm.MethodName)) ∈ lw_all := lw_g (lw_at lw_m5 202 rfl) rfl
theorem q1323 : (Jvm.Cond.methodLink "TermLog" (301 : Nat) ({ cls := "TermLog$Cluster", name := "tickGoes", desc := "()V" } : Jvm.MethodName)) ∈ lw_all := lw_g (lw_at lw_m5 206 rfl) rfl
theorem q1325 : (Jvm.Cond.instanceMethod ({ cls := "TermLog", name := "seed", desc := "(I)Z" } : Jvm.MethodName)) ∈ lw_all := lw_g (lw_at lw_m5 208 rfl) rfl
theorem q1326 : (Jvm.Cond.selects "TermLog" ({ cls := "TermLog", name := "seed", desc := "(I)Z" } : Jvm.MethodName) ({ cls := "TermLog", name := "seed", desc := "(I)Z" } : Jvm.MethodName)) ∈ lw_all := lw_g (lw_at lw_m5 209 rfl) rfl
theorem q1327 : (Jvm.Cond.code ({ cls := "TermLog", name := "seed", desc := "(I)Z" } : Jvm.MethodName) prog_1_method_40_code (2 : Nat) (Option.some Jvm.ClassFile.FieldType.boolean)) ∈ lw_all := lw_g (lw_at lw_m5 210 rfl) rfl
theorem q1328 : (Jvm.Cond.constant "TermLog" (304 : Nat) (65536 : Int32)) ∈ lw_all := lw_g (lw_at lw_m5 211 rfl) rfl
theorem q1330 : (Jvm.Cond.instanceMethod ({ cls := "TermLog", name := "keep", desc := "()I" } : Jvm.MethodName)) ∈ lw_all := lw_g (lw_at lw_m5 213 rfl) rfl
theorem q1331 : (Jvm.Cond.selects "TermLog" ({ cls := "TermLog", name := "keep", desc := "()I" } : Jvm.MethodName) ({ cls := "TermLog", name := "keep", desc := "()I" } : Jvm.MethodName)) ∈ lw_all := lw_g (lw_at lw_m5 214 rfl) rfl
theorem q1332 : (Jvm.Cond.code ({ cls := "TermLog", name := "keep", desc := "()I" } : Jvm.MethodName) prog_1_method_41_code (1 : Nat) (Option.some Jvm.ClassFile.FieldType.int)) ∈ lw_all := lw_g (lw_at lw_m5 215 rfl) rfl
theorem q1334 : (Jvm.Cond.instanceMethod ({ cls := "TermLog", name := "undo", desc := "()Z" } : Jvm.MethodName)) ∈ lw_all := lw_g (lw_at lw_m5 217 rfl) rfl
theorem q1335 : (Jvm.Cond.selects "TermLog" ({ cls := "TermLog", name := "undo", desc := "()Z" } : Jvm.MethodName) ({ cls := "TermLog", name := "undo", desc := "()Z" } : Jvm.MethodName)) ∈ lw_all := lw_g (lw_at lw_m5 218 rfl) rfl
theorem q1336 : (Jvm.Cond.code ({ cls := "TermLog", name := "undo", desc := "()Z" } : Jvm.MethodName) prog_1_method_42_code (1 : Nat) (Option.some Jvm.ClassFile.FieldType.boolean)) ∈ lw_all := lw_g (lw_at lw_m5 219 rfl) rfl
theorem q1338 : (Jvm.Cond.instanceMethod ({ cls := "TermLog", name := "check", desc := "(I)I" } : Jvm.MethodName)) ∈ lw_all := lw_g (lw_at lw_m5 221 rfl) rfl
theorem q1339 : (Jvm.Cond.selects "TermLog" ({ cls := "TermLog", name := "check", desc := "(I)I" } : Jvm.MethodName) ({ cls := "TermLog", name := "check", desc := "(I)I" } : Jvm.MethodName)) ∈ lw_all := lw_g (lw_at lw_m5 222 rfl) rfl
theorem q1340 : (Jvm.Cond.code ({ cls := "TermLog", name := "check", desc := "(I)I" } : Jvm.MethodName) prog_1_method_45_code (4 : Nat) (Option.some Jvm.ClassFile.FieldType.int)) ∈ lw_all := lw_g (lw_at lw_m5 223 rfl) rfl
theorem q1341 : (Jvm.Cond.methodLink "TermLog" (308 : Nat) ({ cls := "TermLog", name := "farthest", desc := "()I" } : Jvm.MethodName)) ∈ lw_all := lw_g (lw_at lw_m5 224 rfl) rfl
theorem q1342 : (Jvm.Cond.privateMethod ({ cls := "TermLog", name := "farthest", desc := "()I" } : Jvm.MethodName)) ∈ lw_tbl := lw_at lw_m5 225 rfl
theorem q1343 : (Jvm.Cond.instanceMethod ({ cls := "TermLog", name := "farthest", desc := "()I" } : Jvm.MethodName)) ∈ lw_all := lw_g (lw_at lw_m5 226 rfl) rfl
theorem q1344 : (Jvm.Cond.code ({ cls := "TermLog", name := "farthest", desc := "()I" } : Jvm.MethodName) prog_1_method_44_code (3 : Nat) (Option.some Jvm.ClassFile.FieldType.int)) ∈ lw_all := lw_g (lw_at lw_m5 227 rfl) rfl
theorem q1345 : (Jvm.Cond.methodLink "TermLog" (311 : Nat) ({ cls := "TermLog", name := "fed", desc := "(I)I" } : Jvm.MethodName)) ∈ lw_all := lw_g (lw_at lw_m5 228 rfl) rfl
theorem q1346 : (Jvm.Cond.privateMethod ({ cls := "TermLog", name := "fed", desc := "(I)I" } : Jvm.MethodName)) ∈ lw_tbl := lw_at lw_m5 229 rfl
theorem q1347 : (Jvm.Cond.instanceMethod ({ cls := "TermLog", name := "fed", desc := "(I)I" } : Jvm.MethodName)) ∈ lw_all := lw_g (lw_at lw_m5 230 rfl) rfl
theorem q1348 : (Jvm.Cond.code ({ cls := "TermLog", name := "fed", desc := "(I)I" } : Jvm.MethodName) prog_1_method_43_code (2 : Nat) (Option.some Jvm.ClassFile.FieldType.int)) ∈ lw_all := lw_g (lw_at lw_m5 231 rfl) rfl
theorem q1350 : (Jvm.Cond.instanceMethod ({ cls := "TermLog", name := "count", desc := "(I)I" } : Jvm.MethodName)) ∈ lw_all := lw_g (lw_at lw_m5 233 rfl) rfl
theorem q1351 : (Jvm.Cond.selects "TermLog" ({ cls := "TermLog", name := "count", desc := "(I)I" } : Jvm.MethodName) ({ cls := "TermLog", name := "count", desc := "(I)I" } : Jvm.MethodName)) ∈ lw_all := lw_g (lw_at lw_m5 234 rfl) rfl
theorem q1352 : (Jvm.Cond.code ({ cls := "TermLog", name := "count", desc := "(I)I" } : Jvm.MethodName) prog_1_method_48_code (2 : Nat) (Option.some Jvm.ClassFile.FieldType.int)) ∈ lw_all := lw_g (lw_at lw_m5 235 rfl) rfl
theorem q1353 : (Jvm.Cond.methodLink "TermLog" (319 : Nat) ({ cls := "TermLog", name := "ups", desc := "()I" } : Jvm.MethodName)) ∈ lw_all := lw_g (lw_at lw_m5 236 rfl) rfl
theorem q1354 : (Jvm.Cond.privateMethod ({ cls := "TermLog", name := "ups", desc := "()I" } : Jvm.MethodName)) ∈ lw_tbl := lw_at lw_m5 237 rfl
theorem q1355 : (Jvm.Cond.instanceMethod ({ cls := "TermLog", name := "ups", desc := "()I" } : Jvm.MethodName)) ∈ lw_all := lw_g (lw_at lw_m5 238 rfl) rfl
theorem q1356 : (Jvm.Cond.code ({ cls := "TermLog", name := "ups", desc := "()I" } : Jvm.MethodName) prog_1_method_46_code (3 : Nat) (Option.some Jvm.ClassFile.FieldType.int)) ∈ lw_all := lw_g (lw_at lw_m5 239 rfl) rfl
theorem q1357 : (Jvm.Cond.methodLink "TermLog" (326 : Nat) ({ cls := "TermLog", name := "cutLinks", desc := "()I" } : Jvm.MethodName)) ∈ lw_all := lw_g (lw_at lw_m6 0 rfl) rfl
theorem q1358 : (Jvm.Cond.privateMethod ({ cls := "TermLog", name := "cutLinks", desc := "()I" } : Jvm.MethodName)) ∈ lw_tbl := lw_at lw_m6 1 rfl
theorem q1359 : (Jvm.Cond.instanceMethod ({ cls := "TermLog", name := "cutLinks", desc := "()I" } : Jvm.MethodName)) ∈ lw_all := lw_g (lw_at lw_m6 2 rfl) rfl
theorem q1360 : (Jvm.Cond.code ({ cls := "TermLog", name := "cutLinks", desc := "()I" } : Jvm.MethodName) prog_1_method_47_code (6 : Nat) (Option.some Jvm.ClassFile.FieldType.int)) ∈ lw_all := lw_g (lw_at lw_m6 3 rfl) rfl
theorem q1361 : (Jvm.Cond.methodLink "TermLog" (314 : Nat) ({ cls := "java/lang/Integer", name := "bitCount", desc := "(I)I" } : Jvm.MethodName)) ∈ lw_all := lw_g (lw_at lw_m6 4 rfl) rfl
theorem in_X0 : ∀ w ∈ wsX00, w ∈ lw_all := lw_in wsX00 [549, 551, 553, 555, 557, 559, 561, 563, 565] (by decide +kernel) (by decide +kernel)
theorem q157 : (Jvm.Cond.initialized "TermLogLaw") ∈ lw_all := lw_g (lw_at lw_m1 0 rfl) rfl
set_option maxRecDepth 100000
theorem q182 : (Jvm.Cond.classLink "TermLogLaw" (7 : Nat) "TermLog") ∈ lw_all := lw_g (lw_at lw_m1 25 rfl) rfl
theorem q184 : (Jvm.Cond.methodLink "TermLogLaw" (9 : Nat) ({ cls := "TermLog", name := "<init>", desc := "()V" } : Jvm.MethodName)) ∈ lw_all := lw_g (lw_at lw_m1 27 rfl) rfl
theorem q568 : (Jvm.Cond.methodLink "TermLogLaw" (13 : Nat) ({ cls := "TermLog", name := "found", desc := "(I)Z" } : Jvm.MethodName)) ∈ lw_all := lw_g (lw_at lw_m2 171 rfl) rfl
theorem q575 : (Jvm.Cond.methodLink "TermLogLaw" (18 : Nat) ({ cls := "TermLog", name := "crash", desc := "(I)Z" } : Jvm.MethodName)) ∈ lw_all := lw_g (lw_at lw_m2 178 rfl) rfl
theorem q589 : (Jvm.Cond.methodLink "TermLogLaw" (22 : Nat) ({ cls := "TermLog", name := "comeUp", desc := "(I)Z" } : Jvm.MethodName)) ∈ lw_all := lw_g (lw_at lw_m2 192 rfl) rfl
theorem q595 : (Jvm.Cond.methodLink "TermLogLaw" (26 : Nat) ({ cls := "TermLog", name := "cut", desc := "(IIZ)Z" } : Jvm.MethodName)) ∈ lw_all := lw_g (lw_at lw_m2 198 rfl) rfl
theorem q599 : (Jvm.Cond.methodLink "TermLogLaw" (31 : Nat) ({ cls := "TermLog", name := "compact", desc := "(I)Z" } : Jvm.MethodName)) ∈ lw_all := lw_g (lw_at lw_m2 202 rfl) rfl
theorem q631 : (Jvm.Cond.methodLink "TermLogLaw" (35 : Nat) ({ cls := "TermLog", name := "write", desc := "(III)I" } : Jvm.MethodName)) ∈ lw_all := lw_g (lw_at lw_m2 234 rfl) rfl
theorem q746 : (Jvm.Cond.methodLink "TermLogLaw" (40 : Nat) ({ cls := "TermLog", name := "change", desc := "(II)I" } : Jvm.MethodName)) ∈ lw_all := lw_g (lw_at lw_m3 109 rfl) rfl
theorem q753 : (Jvm.Cond.methodLink "TermLogLaw" (45 : Nat) ({ cls := "TermLog", name := "ask", desc := "(II)I" } : Jvm.MethodName)) ∈ lw_all := lw_g (lw_at lw_m3 116 rfl) rfl
theorem q767 : (Jvm.Cond.methodLink "TermLogLaw" (49 : Nat) ({ cls := "TermLog", name := "feed", desc := "(IIIII)I" } : Jvm.MethodName)) ∈ lw_all := lw_g (lw_at lw_m3 130 rfl) rfl
theorem q775 : (Jvm.Cond.methodLink "TermLogLaw" (54 : Nat) ({ cls := "TermLog", name := "law", desc := "(I)I" } : Jvm.MethodName)) ∈ lw_all := lw_g (lw_at lw_m3 138 rfl) rfl
theorem q1040 : (Jvm.Cond.methodLink "TermLogLaw" (59 : Nat) ({ cls := "TermLog", name := "plan", desc := "(I)I" } : Jvm.MethodName)) ∈ lw_all := lw_g (lw_at lw_m4 163 rfl) rfl
theorem q1224 : (Jvm.Cond.methodLink "TermLogLaw" (63 : Nat) ({ cls := "TermLog", name := "ticks", desc := "(I)I" } : Jvm.MethodName)) ∈ lw_all := lw_g (lw_at lw_m5 107 rfl) rfl
theorem q1225 : (Jvm.Cond.methodLink "TermLogLaw" (67 : Nat) ({ cls := "TermLog", name := "tried", desc := "(II)I" } : Jvm.MethodName)) ∈ lw_all := lw_g (lw_at lw_m5 108 rfl) rfl
theorem q1241 : (Jvm.Cond.methodLink "TermLogLaw" (71 : Nat) ({ cls := "TermLog", name := "nodeIs", desc := "(II)I" } : Jvm.MethodName)) ∈ lw_all := lw_g (lw_at lw_m5 124 rfl) rfl
theorem q1252 : (Jvm.Cond.methodLink "TermLogLaw" (75 : Nat) ({ cls := "TermLog", name := "entryAt", desc := "(III)I" } : Jvm.MethodName)) ∈ lw_all := lw_g (lw_at lw_m5 135 rfl) rfl
theorem q1260 : (Jvm.Cond.methodLink "TermLogLaw" (79 : Nat) ({ cls := "TermLog", name := "keyOf", desc := "(II)I" } : Jvm.MethodName)) ∈ lw_all := lw_g (lw_at lw_m5 143 rfl) rfl
theorem q1264 : (Jvm.Cond.methodLink "TermLogLaw" (83 : Nat) ({ cls := "TermLog", name := "about", desc := "(III)I" } : Jvm.MethodName)) ∈ lw_all := lw_g (lw_at lw_m5 147 rfl) rfl
theorem q1268 : (Jvm.Cond.methodLink "TermLogLaw" (87 : Nat) ({ cls := "TermLog", name := "message", desc := "(II)I" } : Jvm.MethodName)) ∈ lw_all := lw_g (lw_at lw_m5 151 rfl) rfl
theorem q1272 : (Jvm.Cond.methodLink "TermLogLaw" (91 : Nat) ({ cls := "TermLog", name := "leaderNow", desc := "()I" } : Jvm.MethodName)) ∈ lw_all := lw_g (lw_at lw_m5 155 rfl) rfl
theorem q1276 : (Jvm.Cond.methodLink "TermLogLaw" (96 : Nat) ({ cls := "TermLog", name := "heldAt", desc := "(II)I" } : Jvm.MethodName)) ∈ lw_all := lw_g (lw_at lw_m5 159 rfl) rfl
theorem q1280 : (Jvm.Cond.methodLink "TermLogLaw" (100 : Nat) ({ cls := "TermLog", name := "readIs", desc := "(II)I" } : Jvm.MethodName)) ∈ lw_all := lw_g (lw_at lw_m5 163 rfl) rfl
theorem q1284 : (Jvm.Cond.methodLink "TermLogLaw" (104 : Nat) ({ cls := "TermLog", name := "broken", desc := "(I)I" } : Jvm.MethodName)) ∈ lw_all := lw_g (lw_at lw_m5 167 rfl) rfl
theorem q1298 : (Jvm.Cond.methodLink "TermLogLaw" (108 : Nat) ({ cls := "TermLog", name := "couldWin", desc := "(II)I" } : Jvm.MethodName)) ∈ lw_all := lw_g (lw_at lw_m5 181 rfl) rfl
theorem q1311 : (Jvm.Cond.methodLink "TermLogLaw" (112 : Nat) ({ cls := "TermLog", name := "majority", desc := "(II)I" } : Jvm.MethodName)) ∈ lw_all := lw_g (lw_at lw_m5 194 rfl) rfl
theorem q1315 : (Jvm.Cond.methodLink "TermLogLaw" (116 : Nat) ({ cls := "TermLog", name := "till", desc := "(II)I" } : Jvm.MethodName)) ∈ lw_all := lw_g (lw_at lw_m5 198 rfl) rfl
theorem q1324 : (Jvm.Cond.methodLink "TermLogLaw" (120 : Nat) ({ cls := "TermLog", name := "seed", desc := "(I)Z" } : Jvm.MethodName)) ∈ lw_all := lw_g (lw_at lw_m5 207 rfl) rfl
theorem q1329 : (Jvm.Cond.methodLink "TermLogLaw" (124 : Nat) ({ cls := "TermLog", name := "keep", desc := "()I" } : Jvm.MethodName)) ∈ lw_all := lw_g (lw_at lw_m5 212 rfl) rfl
theorem q1333 : (Jvm.Cond.methodLink "TermLogLaw" (128 : Nat) ({ cls := "TermLog", name := "undo", desc := "()Z" } : Jvm.MethodName)) ∈ lw_all := lw_g (lw_at lw_m5 216 rfl) rfl
theorem q1337 : (Jvm.Cond.methodLink "TermLogLaw" (133 : Nat) ({ cls := "TermLog", name := "check", desc := "(I)I" } : Jvm.MethodName)) ∈ lw_all := lw_g (lw_at lw_m5 220 rfl) rfl
theorem q1349 : (Jvm.Cond.methodLink "TermLogLaw" (137 : Nat) ({ cls := "TermLog", name := "count", desc := "(I)I" } : Jvm.MethodName)) ∈ lw_all := lw_g (lw_at lw_m5 232 rfl) rfl
theorem q1362 : (Jvm.Cond.classLink "TermLogLaw" (10 : Nat) "TermLogModel") ∈ lw_all := lw_g (lw_at lw_m6 5 rfl) rfl
theorem q1364 : (Jvm.Cond.methodLink "TermLogLaw" (12 : Nat) ({ cls := "TermLogModel", name := "<init>", desc := "()V" } : Jvm.MethodName)) ∈ lw_all := lw_g (lw_at lw_m6 7 rfl) rfl
theorem q1537 : (Jvm.Cond.methodLink "TermLogLaw" (53 : Nat) ({ cls := "TermLogModel", name := "feed", desc := "(IIIII)I" } : Jvm.MethodName)) ∈ lw_all := lw_g (lw_at lw_m6 180 rfl) rfl
theorem q1545 : (Jvm.Cond.methodLink "TermLogLaw" (58 : Nat) ({ cls := "TermLogModel", name := "law", desc := "(I)I" } : Jvm.MethodName)) ∈ lw_all := lw_g (lw_at lw_m6 188 rfl) rfl
theorem q1634 : (Jvm.Cond.methodLink "TermLogLaw" (66 : Nat) ({ cls := "TermLogModel", name := "ticks", desc := "(I)I" } : Jvm.MethodName)) ∈ lw_all := lw_g (lw_at lw_m7 37 rfl) rfl
theorem q1874 : (Jvm.Cond.methodLink "TermLogLaw" (17 : Nat) ({ cls := "TermLogModel", name := "found", desc := "(I)Z" } : Jvm.MethodName)) ∈ lw_all := lw_g (lw_at lw_m8 37 rfl) rfl
theorem q1878 : (Jvm.Cond.methodLink "TermLogLaw" (21 : Nat) ({ cls := "TermLogModel", name := "crash", desc := "(I)Z" } : Jvm.MethodName)) ∈ lw_all := lw_g (lw_at lw_m8 41 rfl) rfl
theorem q1882 : (Jvm.Cond.methodLink "TermLogLaw" (25 : Nat) ({ cls := "TermLogModel", name := "comeUp", desc := "(I)Z" } : Jvm.MethodName)) ∈ lw_all := lw_g (lw_at lw_m8 45 rfl) rfl
theorem q1886 : (Jvm.Cond.methodLink "TermLogLaw" (30 : Nat) ({ cls := "TermLogModel", name := "cut", desc := "(IIZ)Z" } : Jvm.MethodName)) ∈ lw_all := lw_g (lw_at lw_m8 49 rfl) rfl
theorem q1890 : (Jvm.Cond.methodLink "TermLogLaw" (34 : Nat) ({ cls := "TermLogModel", name := "compact", desc := "(I)Z" } : Jvm.MethodName)) ∈ lw_all := lw_g (lw_at lw_m8 53 rfl) rfl
theorem q1894 : (Jvm.Cond.methodLink "TermLogLaw" (39 : Nat) ({ cls := "TermLogModel", name := "write", desc := "(III)I" } : Jvm.MethodName)) ∈ lw_all := lw_g (lw_at lw_m8 57 rfl) rfl
theorem q1906 : (Jvm.Cond.methodLink "TermLogLaw" (44 : Nat) ({ cls := "TermLogModel", name := "change", desc := "(II)I" } : Jvm.MethodName)) ∈ lw_all := lw_g (lw_at lw_m8 69 rfl) rfl
theorem q1910 : (Jvm.Cond.methodLink "TermLogLaw" (48 : Nat) ({ cls := "TermLogModel", name := "ask", desc := "(II)I" } : Jvm.MethodName)) ∈ lw_all := lw_g (lw_at lw_m8 73 rfl) rfl
theorem q1914 : (Jvm.Cond.methodLink "TermLogLaw" (62 : Nat) ({ cls := "TermLogModel", name := "plan", desc := "(I)I" } : Jvm.MethodName)) ∈ lw_all := lw_g (lw_at lw_m8 77 rfl) rfl
theorem q1951 : (Jvm.Cond.methodLink "TermLogLaw" (95 : Nat) ({ cls := "TermLogModel", name := "leaderNow", desc := "()I" } : Jvm.MethodName)) ∈ lw_all := lw_g (lw_at lw_m8 114 rfl) rfl
theorem q1959 : (Jvm.Cond.methodLink "TermLogLaw" (70 : Nat) ({ cls := "TermLogModel", name := "tried", desc := "(II)I" } : Jvm.MethodName)) ∈ lw_all := lw_g (lw_at lw_m8 122 rfl) rfl
theorem q1966 : (Jvm.Cond.methodLink "TermLogLaw" (74 : Nat) ({ cls := "TermLogModel", name := "nodeIs", desc := "(II)I" } : Jvm.MethodName)) ∈ lw_all := lw_g (lw_at lw_m8 129 rfl) rfl
theorem q1973 : (Jvm.Cond.methodLink "TermLogLaw" (78 : Nat) ({ cls := "TermLogModel", name := "entryAt", desc := "(III)I" } : Jvm.MethodName)) ∈ lw_all := lw_g (lw_at lw_m8 136 rfl) rfl
theorem q1977 : (Jvm.Cond.methodLink "TermLogLaw" (82 : Nat) ({ cls := "TermLogModel", name := "keyOf", desc := "(II)I" } : Jvm.MethodName)) ∈ lw_all := lw_g (lw_at lw_m8 140 rfl) rfl
theorem q1981 : (Jvm.Cond.methodLink "TermLogLaw" (86 : Nat) ({ cls := "TermLogModel", name := "about", desc := "(III)I" } : Jvm.MethodName)) ∈ lw_all := lw_g (lw_at lw_m8 144 rfl) rfl
theorem q1985 : (Jvm.Cond.methodLink "TermLogLaw" (90 : Nat) ({ cls := "TermLogModel", name := "message", desc := "(II)I" } : Jvm.MethodName)) ∈ lw_all := lw_g (lw_at lw_m8 148 rfl) rfl
theorem q1989 : (Jvm.Cond.methodLink "TermLogLaw" (99 : Nat) ({ cls := "TermLogModel", name := "heldAt", desc := "(II)I" } : Jvm.MethodName)) ∈ lw_all := lw_g (lw_at lw_m8 152 rfl) rfl
theorem q1993 : (Jvm.Cond.methodLink "TermLogLaw" (103 : Nat) ({ cls := "TermLogModel", name := "readIs", desc := "(II)I" } : Jvm.MethodName)) ∈ lw_all := lw_g (lw_at lw_m8 156 rfl) rfl
theorem q1997 : (Jvm.Cond.methodLink "TermLogLaw" (107 : Nat) ({ cls := "TermLogModel", name := "broken", desc := "(I)I" } : Jvm.MethodName)) ∈ lw_all := lw_g (lw_at lw_m8 160 rfl) rfl
theorem q2013 : (Jvm.Cond.methodLink "TermLogLaw" (111 : Nat) ({ cls := "TermLogModel", name := "couldWin", desc := "(II)I" } : Jvm.MethodName)) ∈ lw_all := lw_g (lw_at lw_m8 176 rfl) rfl
theorem q2021 : (Jvm.Cond.methodLink "TermLogLaw" (115 : Nat) ({ cls := "TermLogModel", name := "majority", desc := "(II)I" } : Jvm.MethodName)) ∈ lw_all := lw_g (lw_at lw_m8 184 rfl) rfl
theorem q2025 : (Jvm.Cond.methodLink "TermLogLaw" (119 : Nat) ({ cls := "TermLogModel", name := "till", desc := "(II)I" } : Jvm.MethodName)) ∈ lw_all := lw_g (lw_at lw_m8 188 rfl) rfl
theorem q2037 : (Jvm.Cond.methodLink "TermLogLaw" (123 : Nat) ({ cls := "TermLogModel", name := "seed", desc := "(I)Z" } : Jvm.MethodName)) ∈ lw_all := lw_g (lw_at lw_m8 200 rfl) rfl
theorem q2042 : (Jvm.Cond.methodLink "TermLogLaw" (127 : Nat) ({ cls := "TermLogModel", name := "keep", desc := "()I" } : Jvm.MethodName)) ∈ lw_all := lw_g (lw_at lw_m8 205 rfl) rfl
theorem q2046 : (Jvm.Cond.methodLink "TermLogLaw" (132 : Nat) ({ cls := "TermLogModel", name := "undo", desc := "()Z" } : Jvm.MethodName)) ∈ lw_all := lw_g (lw_at lw_m8 209 rfl) rfl
theorem q2050 : (Jvm.Cond.methodLink "TermLogLaw" (136 : Nat) ({ cls := "TermLogModel", name := "check", desc := "(I)I" } : Jvm.MethodName)) ∈ lw_all := lw_g (lw_at lw_m8 213 rfl) rfl
theorem q2062 : (Jvm.Cond.methodLink "TermLogLaw" (140 : Nat) ({ cls := "TermLogModel", name := "count", desc := "(I)I" } : Jvm.MethodName)) ∈ lw_all := lw_g (lw_at lw_m8 225 rfl) rfl
/-! the law's own entry -/
set_option maxRecDepth 100000
abbrev cL_law : ByteArray := code
def dkwL_law_41 : List UInt8 := [182, 0, 140, 159, 0, 5, 3, 172, 132, 3, 6, 167, 251, 221, 4, 172]
abbrev dktL_law_41 : List UInt8 := dkwL_law_41 ++ []
def dkwL_law_40 : List UInt8 := [182, 0, 136, 159, 0, 28, 3, 172, 43, 42, 29, 4, 96, 46, 182, 0, 137, 44, 42, 29, 4, 96, 46]
abbrev dktL_law_40 : List UInt8 := dkwL_law_40 ++ dktL_law_41
def dkwL_law_39 : List UInt8 := [182, 0, 132, 159, 0, 51, 3, 172, 43, 42, 29, 4, 96, 46, 182, 0, 133, 44, 42, 29, 4, 96, 46]
abbrev dktL_law_39 : List UInt8 := dkwL_law_39 ++ dktL_law_40
def dkwL_law_38 : List UInt8 := [159, 0, 77, 3, 172, 43, 182, 0, 124, 44, 182, 0, 127, 159, 0, 64, 3, 172, 43, 182, 0, 128, 44]
abbrev dktL_law_38 : List UInt8 := dkwL_law_38 ++ dktL_law_39
def dkwL_law_37 : List UInt8 := [159, 0, 100, 3, 172, 43, 42, 29, 4, 96, 46, 182, 0, 120, 44, 42, 29, 4, 96, 46, 182, 0, 123]
abbrev dktL_law_37 : List UInt8 := dkwL_law_37 ++ dktL_law_38
def dkwL_law_36 : List UInt8 := [46, 42, 29, 5, 96, 46, 182, 0, 116, 44, 42, 29, 4, 96, 46, 42, 29, 5, 96, 46, 182, 0, 119]
abbrev dktL_law_36 : List UInt8 := dkwL_law_36 ++ dktL_law_37
def dkwL_law_35 : List UInt8 := [44, 42, 29, 4, 96, 46, 42, 29, 5, 96, 46, 182, 0, 115, 159, 0, 133, 3, 172, 43, 42, 29, 4, 96]
abbrev dktL_law_35 : List UInt8 := dkwL_law_35 ++ dktL_law_36
def dkwL_law_34 : List UInt8 := [96, 46, 182, 0, 111, 159, 0, 166, 3, 172, 43, 42, 29, 4, 96, 46, 42, 29, 5, 96, 46, 182, 0, 112]
abbrev dktL_law_34 : List UInt8 := dkwL_law_34 ++ dktL_law_35
def dkwL_law_33 : List UInt8 := [172, 43, 42, 29, 4, 96, 46, 42, 29, 5, 96, 46, 182, 0, 108, 44, 42, 29, 4, 96, 46, 42, 29, 5]
abbrev dktL_law_33 : List UInt8 := dkwL_law_33 ++ dktL_law_34
def dkwL_law_32 : List UInt8 := [3, 172, 43, 42, 29, 4, 96, 46, 182, 0, 104, 44, 42, 29, 4, 96, 46, 182, 0, 107, 159, 0, 199, 3]
abbrev dktL_law_32 : List UInt8 := dkwL_law_32 ++ dktL_law_33
def dkwL_law_31 : List UInt8 := [29, 5, 96, 46, 182, 0, 100, 44, 42, 29, 4, 96, 46, 42, 29, 5, 96, 46, 182, 0, 103, 159, 0, 222]
abbrev dktL_law_31 : List UInt8 := dkwL_law_31 ++ dktL_law_32
def dkwL_law_30 : List UInt8 := [29, 4, 96, 46, 42, 29, 5, 96, 46, 182, 0, 99, 159, 0, 255, 3, 172, 43, 42, 29, 4, 96, 46, 42]
abbrev dktL_law_30 : List UInt8 := dkwL_law_30 ++ dktL_law_31
def dkwL_law_29 : List UInt8 := [182, 0, 95, 159, 1, 32, 3, 172, 43, 42, 29, 4, 96, 46, 42, 29, 5, 96, 46, 182, 0, 96, 44, 42]
abbrev dktL_law_29 : List UInt8 := dkwL_law_29 ++ dktL_law_30
def dkwL_law_28 : List UInt8 := [42, 29, 4, 96, 46, 42, 29, 5, 96, 46, 182, 0, 90, 159, 1, 45, 3, 172, 43, 182, 0, 91, 44]
abbrev dktL_law_28 : List UInt8 := dkwL_law_28 ++ dktL_law_29
def dkwL_law_27 : List UInt8 := [46, 182, 0, 86, 159, 1, 78, 3, 172, 43, 42, 29, 4, 96, 46, 42, 29, 5, 96, 46, 182, 0, 87, 44]
abbrev dktL_law_27 : List UInt8 := dkwL_law_27 ++ dktL_law_28
def dkwL_law_26 : List UInt8 := [46, 42, 29, 6, 96, 46, 182, 0, 83, 44, 42, 29, 4, 96, 46, 42, 29, 5, 96, 46, 42, 29, 6, 96]
abbrev dktL_law_26 : List UInt8 := dkwL_law_26 ++ dktL_law_27
def dkwL_law_25 : List UInt8 := [46, 42, 29, 5, 96, 46, 182, 0, 82, 159, 1, 121, 3, 172, 43, 42, 29, 4, 96, 46, 42, 29, 5, 96]
abbrev dktL_law_25 : List UInt8 := dkwL_law_25 ++ dktL_law_26
def dkwL_law_24 : List UInt8 := [159, 1, 154, 3, 172, 43, 42, 29, 4, 96, 46, 42, 29, 5, 96, 46, 182, 0, 79, 44, 42, 29, 4, 96]
abbrev dktL_law_24 : List UInt8 := dkwL_law_24 ++ dktL_law_25
def dkwL_law_23 : List UInt8 := [182, 0, 75, 44, 42, 29, 4, 96, 46, 42, 29, 5, 96, 46, 42, 29, 6, 96, 46, 182, 0, 78]
abbrev dktL_law_23 : List UInt8 := dkwL_law_23 ++ dktL_law_24
def dkwL_law_22 : List UInt8 := [182, 0, 74, 159, 1, 197, 3, 172, 43, 42, 29, 4, 96, 46, 42, 29, 5, 96, 46, 42, 29, 6, 96, 46]
abbrev dktL_law_22 : List UInt8 := dkwL_law_22 ++ dktL_law_23
def dkwL_law_21 : List UInt8 := [29, 4, 96, 46, 42, 29, 5, 96, 46, 182, 0, 71, 44, 42, 29, 4, 96, 46, 42, 29, 5, 96, 46]
abbrev dktL_law_21 : List UInt8 := dkwL_law_21 ++ dktL_law_22
def dkwL_law_20 : List UInt8 := [182, 0, 67, 44, 42, 29, 4, 96, 46, 42, 29, 5, 96, 46, 182, 0, 70, 159, 1, 230, 3, 172, 43, 42]
abbrev dktL_law_20 : List UInt8 := dkwL_law_20 ++ dktL_law_21
def dkwL_law_19 : List UInt8 := [4, 96, 46, 182, 0, 66, 159, 2, 7, 3, 172, 43, 42, 29, 4, 96, 46, 42, 29, 5, 96, 46]
abbrev dktL_law_19 : List UInt8 := dkwL_law_19 ++ dktL_law_20
def dkwL_law_18 : List UInt8 := [29, 4, 96, 46, 182, 0, 62, 159, 2, 30, 3, 172, 43, 42, 29, 4, 96, 46, 182, 0, 63, 44, 42, 29]
abbrev dktL_law_18 : List UInt8 := dkwL_law_18 ++ dktL_law_19
def dkwL_law_17 : List UInt8 := [42, 29, 4, 96, 46, 182, 0, 58, 159, 2, 53, 3, 172, 43, 42, 29, 4, 96, 46, 182, 0, 59, 44, 42]
abbrev dktL_law_17 : List UInt8 := dkwL_law_17 ++ dktL_law_18
def dkwL_law_16 : List UInt8 := [46, 42, 29, 8, 96, 46, 182, 0, 53, 159, 2, 76, 3, 172, 43, 42, 29, 4, 96, 46, 182, 0, 54, 44]
abbrev dktL_law_16 : List UInt8 := dkwL_law_16 ++ dktL_law_17
def dkwL_law_15 : List UInt8 := [46, 182, 0, 49, 44, 42, 29, 4, 96, 46, 42, 29, 5, 96, 46, 42, 29, 6, 96, 46, 42, 29, 7, 96]
abbrev dktL_law_15 : List UInt8 := dkwL_law_15 ++ dktL_law_16
def dkwL_law_14 : List UInt8 := [42, 29, 4, 96, 46, 42, 29, 5, 96, 46, 42, 29, 6, 96, 46, 42, 29, 7, 96, 46, 42, 29, 8, 96]
abbrev dktL_law_14 : List UInt8 := dkwL_law_14 ++ dktL_law_15
def dkwL_law_13 : List UInt8 := [46, 182, 0, 45, 44, 42, 29, 4, 96, 46, 42, 29, 5, 96, 46, 182, 0, 48, 159, 2, 139, 3, 172, 43]
abbrev dktL_law_13 : List UInt8 := dkwL_law_13 ++ dktL_law_14
def dkwL_law_12 : List UInt8 := [46, 42, 29, 5, 96, 46, 182, 0, 44, 159, 2, 172, 3, 172, 43, 42, 29, 4, 96, 46, 42, 29, 5, 96]
abbrev dktL_law_12 : List UInt8 := dkwL_law_12 ++ dktL_law_13
def dkwL_law_11 : List UInt8 := [159, 2, 205, 3, 172, 43, 42, 29, 4, 96, 46, 42, 29, 5, 96, 46, 182, 0, 40, 44, 42, 29, 4, 96]
abbrev dktL_law_11 : List UInt8 := dkwL_law_11 ++ dktL_law_12
def dkwL_law_10 : List UInt8 := [182, 0, 35, 44, 42, 29, 4, 96, 46, 42, 29, 5, 96, 46, 42, 29, 6, 96, 46, 182, 0, 39]
abbrev dktL_law_10 : List UInt8 := dkwL_law_10 ++ dktL_law_11
def dkwL_law_9 : List UInt8 := [182, 0, 34, 159, 2, 248, 3, 172, 43, 42, 29, 4, 96, 46, 42, 29, 5, 96, 46, 42, 29, 6, 96, 46]
abbrev dktL_law_9 : List UInt8 := dkwL_law_9 ++ dktL_law_10
def dkwL_law_8 : List UInt8 := [182, 0, 30, 159, 3, 15, 3, 172, 43, 42, 29, 4, 96, 46, 182, 0, 31, 44, 42, 29, 4, 96, 46]
abbrev dktL_law_8 : List UInt8 := dkwL_law_8 ++ dktL_law_9
def dkwL_law_7 : List UInt8 := [44, 42, 29, 4, 96, 46, 42, 29, 5, 96, 46, 42, 29, 6, 96, 46, 153, 0, 7, 4, 167, 0, 4, 3]
abbrev dktL_law_7 : List UInt8 := dkwL_law_7 ++ dktL_law_8
def dkwL_law_6 : List UInt8 := [4, 96, 46, 42, 29, 5, 96, 46, 42, 29, 6, 96, 46, 153, 0, 7, 4, 167, 0, 4, 3, 182, 0, 26]
abbrev dktL_law_6 : List UInt8 := dkwL_law_6 ++ dktL_law_7
def dkwL_law_5 : List UInt8 := [29, 4, 96, 46, 182, 0, 22, 44, 42, 29, 4, 96, 46, 182, 0, 25, 159, 3, 74, 3, 172, 43, 42, 29]
abbrev dktL_law_5 : List UInt8 := dkwL_law_5 ++ dktL_law_6
def dkwL_law_4 : List UInt8 := [42, 29, 4, 96, 46, 182, 0, 18, 44, 42, 29, 4, 96, 46, 182, 0, 21, 159, 3, 97, 3, 172, 43, 42]
abbrev dktL_law_4 : List UInt8 := dkwL_law_4 ++ dktL_law_5
def dkwL_law_3 : List UInt8 := [43, 42, 29, 4, 96, 46, 182, 0, 13, 44, 42, 29, 4, 96, 46, 182, 0, 17, 159, 3, 120, 3, 172, 43]
abbrev dktL_law_3 : List UInt8 := dkwL_law_3 ++ dktL_law_4
def dkwL_law_2 : List UInt8 := [170, 0, 0, 0, 0, 4, 17, 0, 0, 0, 0, 0, 0, 0, 29, 0, 0, 0, 135, 0, 0, 0, 158, 0, 0, 0, 181, 0, 0, 0, 204, 0, 0, 1, 7, 0, 0, 1, 30, 0, 0, 1, 73, 0, 0, 1, 106, 0, 0, 1, 139, 0, 0, 1, 202, 0, 0, 1, 225, 0, 0, 1, 248, 0, 0, 2, 15, 0, 0, 2, 48, 0, 0, 2, 81, 0, 0, 2, 124, 0, 0, 2, 157, 0, 0, 2, 200, 0, 0, 2, 233, 0, 0, 2, 246, 0, 0, 3, 23, 0, 0, 3, 56, 0, 0, 3, 79, 0, 0, 3, 112, 0, 0, 3, 145, 0, 0, 3, 178, 0, 0, 3, 201, 0, 0, 3, 214, 0, 0, 3, 227, 0, 0, 3, 250]
abbrev dktL_law_2 : List UInt8 := dkwL_law_2 ++ dktL_law_3
def dkwL_law_1 : List UInt8 := [163, 4, 32, 42, 29, 46, 16, 31, 126]
abbrev dktL_law_1 : List UInt8 := dkwL_law_1 ++ dktL_law_2
def dkwL_law_0 : List UInt8 := [187, 0, 7, 89, 183, 0, 9, 76, 187, 0, 10, 89, 183, 0, 12, 77, 3, 62, 29, 42, 190, 16, 6, 100]
abbrev dktL_law_0 : List UInt8 := dkwL_law_0 ++ dktL_law_1
theorem dksL_law_0 : cL_law.data.toList.drop 0 = dktL_law_0 := by decide +kernel
theorem dksL_law_1 : cL_law.data.toList.drop 24 = dktL_law_1 := dk_seg dksL_law_0 24 rfl rfl
theorem dksL_law_2 : cL_law.data.toList.drop 33 = dktL_law_2 := dk_seg dksL_law_1 9 rfl rfl
theorem dksL_law_3 : cL_law.data.toList.drop 168 = dktL_law_3 := dk_seg dksL_law_2 135 rfl rfl
theorem dksL_law_4 : cL_law.data.toList.drop 192 = dktL_law_4 := dk_seg dksL_law_3 24 rfl rfl
theorem dksL_law_5 : cL_law.data.toList.drop 216 = dktL_law_5 := dk_seg dksL_law_4 24 rfl rfl
theorem dksL_law_6 : cL_law.data.toList.drop 240 = dktL_law_6 := dk_seg dksL_law_5 24 rfl rfl
theorem dksL_law_7 : cL_law.data.toList.drop 264 = dktL_law_7 := dk_seg dksL_law_6 24 rfl rfl
theorem dksL_law_8 : cL_law.data.toList.drop 288 = dktL_law_8 := dk_seg dksL_law_7 24 rfl rfl
theorem dksL_law_9 : cL_law.data.toList.drop 311 = dktL_law_9 := dk_seg dksL_law_8 23 rfl rfl
theorem dksL_law_10 : cL_law.data.toList.drop 335 = dktL_law_10 := dk_seg dksL_law_9 24 rfl rfl
theorem dksL_law_11 : cL_law.data.toList.drop 357 = dktL_law_11 := dk_seg dksL_law_10 22 rfl rfl
theorem dksL_law_12 : cL_law.data.toList.drop 381 = dktL_law_12 := dk_seg dksL_law_11 24 rfl rfl
theorem dksL_law_13 : cL_law.data.toList.drop 405 = dktL_law_13 := dk_seg dksL_law_12 24 rfl rfl
theorem dksL_law_14 : cL_law.data.toList.drop 429 = dktL_law_14 := dk_seg dksL_law_13 24 rfl rfl
theorem dksL_law_15 : cL_law.data.toList.drop 453 = dktL_law_15 := dk_seg dksL_law_14 24 rfl rfl
theorem dksL_law_16 : cL_law.data.toList.drop 477 = dktL_law_16 := dk_seg dksL_law_15 24 rfl rfl
theorem dksL_law_17 : cL_law.data.toList.drop 501 = dktL_law_17 := dk_seg dksL_law_16 24 rfl rfl
theorem dksL_law_18 : cL_law.data.toList.drop 525 = dktL_law_18 := dk_seg dksL_law_17 24 rfl rfl
theorem dksL_law_19 : cL_law.data.toList.drop 549 = dktL_law_19 := dk_seg dksL_law_18 24 rfl rfl
theorem dksL_law_20 : cL_law.data.toList.drop 571 = dktL_law_20 := dk_seg dksL_law_19 22 rfl rfl
theorem dksL_law_21 : cL_law.data.toList.drop 595 = dktL_law_21 := dk_seg dksL_law_20 24 rfl rfl
theorem dksL_law_22 : cL_law.data.toList.drop 618 = dktL_law_22 := dk_seg dksL_law_21 23 rfl rfl
theorem dksL_law_23 : cL_law.data.toList.drop 642 = dktL_law_23 := dk_seg dksL_law_22 24 rfl rfl
theorem dksL_law_24 : cL_law.data.toList.drop 664 = dktL_law_24 := dk_seg dksL_law_23 22 rfl rfl
theorem dksL_law_25 : cL_law.data.toList.drop 688 = dktL_law_25 := dk_seg dksL_law_24 24 rfl rfl
theorem dksL_law_26 : cL_law.data.toList.drop 712 = dktL_law_26 := dk_seg dksL_law_25 24 rfl rfl
theorem dksL_law_27 : cL_law.data.toList.drop 736 = dktL_law_27 := dk_seg dksL_law_26 24 rfl rfl
theorem dksL_law_28 : cL_law.data.toList.drop 760 = dktL_law_28 := dk_seg dksL_law_27 24 rfl rfl
theorem dksL_law_29 : cL_law.data.toList.drop 783 = dktL_law_29 := dk_seg dksL_law_28 23 rfl rfl
theorem dksL_law_30 : cL_law.data.toList.drop 807 = dktL_law_30 := dk_seg dksL_law_29 24 rfl rfl
theorem dksL_law_31 : cL_law.data.toList.drop 831 = dktL_law_31 := dk_seg dksL_law_30 24 rfl rfl
theorem dksL_law_32 : cL_law.data.toList.drop 855 = dktL_law_32 := dk_seg dksL_law_31 24 rfl rfl
theorem dksL_law_33 : cL_law.data.toList.drop 879 = dktL_law_33 := dk_seg dksL_law_32 24 rfl rfl
theorem dksL_law_34 : cL_law.data.toList.drop 903 = dktL_law_34 := dk_seg dksL_law_33 24 rfl rfl
theorem dksL_law_35 : cL_law.data.toList.drop 927 = dktL_law_35 := dk_seg dksL_law_34 24 rfl rfl
theorem dksL_law_36 : cL_law.data.toList.drop 951 = dktL_law_36 := dk_seg dksL_law_35 24 rfl rfl
theorem dksL_law_37 : cL_law.data.toList.drop 974 = dktL_law_37 := dk_seg dksL_law_36 23 rfl rfl
theorem dksL_law_38 : cL_law.data.toList.drop 997 = dktL_law_38 := dk_seg dksL_law_37 23 rfl rfl
theorem dksL_law_39 : cL_law.data.toList.drop 1020 = dktL_law_39 := dk_seg dksL_law_38 23 rfl rfl
theorem dksL_law_40 : cL_law.data.toList.drop 1043 = dktL_law_40 := dk_seg dksL_law_39 23 rfl rfl
theorem dksL_law_41 : cL_law.data.toList.drop 1066 = dktL_law_41 := dk_seg dksL_law_40 23 rfl rfl
theorem dL_law_0 : decode cL_law 0 = .ok (.new 7, 3) := dk_187 0 7 (dk_at dksL_law_0 0 rfl rfl)
theorem dL_law_3 : decode cL_law 3 = .ok (.dup, 1) := dk_89 (dk_at dksL_law_0 3 rfl rfl)
theorem dL_law_4 : decode cL_law 4 = .ok (.invokespecial 9, 3) := dk_183 0 9 (dk_at dksL_law_0 4 rfl rfl)
theorem dL_law_7 : decode cL_law 7 = .ok (.astore_n 1, 1) := dk_76 (dk_at dksL_law_0 7 rfl rfl)
theorem dL_law_8 : decode cL_law 8 = .ok (.new 10, 3) := dk_187 0 10 (dk_at dksL_law_0 8 rfl rfl)
theorem dL_law_11 : decode cL_law 11 = .ok (.dup, 1) := dk_89 (dk_at dksL_law_0 11 rfl rfl)
theorem dL_law_12 : decode cL_law 12 = .ok (.invokespecial 12, 3) := dk_183 0 12 (dk_at dksL_law_0 12 rfl rfl)
theorem dL_law_15 : decode cL_law 15 = .ok (.astore_n 2, 1) := dk_77 (dk_at dksL_law_0 15 rfl rfl)
theorem dL_law_16 : decode cL_law 16 = .ok (.iconst 0, 1) := dk_3 (dk_at dksL_law_0 16 rfl rfl)
theorem dL_law_17 : decode cL_law 17 = .ok (.istore_n 3, 1) := dk_62 (dk_at dksL_law_0 17 rfl rfl)
theorem dL_law_18 : decode cL_law 18 = .ok (.iload_n 3, 1) := dk_29 (dk_at dksL_law_0 18 rfl rfl)
theorem dL_law_19 : decode cL_law 19 = .ok (.aload_n 0, 1) := dk_42 (dk_at dksL_law_0 19 rfl rfl)
theorem dL_law_20 : decode cL_law 20 = .ok (.arraylength, 1) := dk_190 (dk_at dksL_law_0 20 rfl rfl)
theorem dL_law_21 : decode cL_law 21 = .ok (.bipush 6, 2) := dk_16 6 (dk_at dksL_law_0 21 rfl rfl)
theorem dL_law_23 : decode cL_law 23 = .ok (.isub, 1) := dk_100 (dk_at dksL_law_0 23 rfl rfl)
theorem dL_law_24 : decode cL_law 24 = .ok (.if_icmp .gt 1056, 3) := dk_163 4 32 (dk_at dksL_law_1 0 rfl rfl)
theorem dL_law_27 : decode cL_law 27 = .ok (.aload_n 0, 1) := dk_42 (dk_at dksL_law_1 3 rfl rfl)
theorem dL_law_28 : decode cL_law 28 = .ok (.iload_n 3, 1) := dk_29 (dk_at dksL_law_1 4 rfl rfl)
theorem dL_law_29 : decode cL_law 29 = .ok (.iaload, 1) := dk_46 (dk_at dksL_law_1 5 rfl rfl)
theorem dL_law_30 : decode cL_law 30 = .ok (.bipush 31, 2) := dk_16 31 (dk_at dksL_law_1 6 rfl rfl)
theorem dL_law_32 : decode cL_law 32 = .ok (.iand, 1) := dk_126 (dk_at dksL_law_1 8 rfl rfl)
theorem dL_law_33 : decode cL_law 33 = .ok (.tableswitch 1041 0 29 #[135, 158, 181, 204, 263, 286, 329, 362, 395, 458, 481, 504, 527, 560, 593, 636, 669, 712, 745, 758, 791, 824, 847, 880, 913, 946, 969, 982, 995, 1018], 135) := by decide +kernel
theorem dL_law_168 : decode cL_law 168 = .ok (.aload_n 1, 1) := dk_43 (dk_at dksL_law_3 0 rfl rfl)
theorem dL_law_169 : decode cL_law 169 = .ok (.aload_n 0, 1) := dk_42 (dk_at dksL_law_3 1 rfl rfl)
theorem dL_law_170 : decode cL_law 170 = .ok (.iload_n 3, 1) := dk_29 (dk_at dksL_law_3 2 rfl rfl)
theorem dL_law_171 : decode cL_law 171 = .ok (.iconst 1, 1) := dk_4 (dk_at dksL_law_3 3 rfl rfl)
theorem dL_law_172 : decode cL_law 172 = .ok (.iadd, 1) := dk_96 (dk_at dksL_law_3 4 rfl rfl)
theorem dL_law_173 : decode cL_law 173 = .ok (.iaload, 1) := dk_46 (dk_at dksL_law_3 5 rfl rfl)
theorem dL_law_174 : decode cL_law 174 = .ok (.invokevirtual 13, 3) := dk_182 0 13 (dk_at dksL_law_3 6 rfl rfl)
theorem dL_law_177 : decode cL_law 177 = .ok (.aload_n 2, 1) := dk_44 (dk_at dksL_law_3 9 rfl rfl)
theorem dL_law_178 : decode cL_law 178 = .ok (.aload_n 0, 1) := dk_42 (dk_at dksL_law_3 10 rfl rfl)
theorem dL_law_179 : decode cL_law 179 = .ok (.iload_n 3, 1) := dk_29 (dk_at dksL_law_3 11 rfl rfl)
theorem dL_law_180 : decode cL_law 180 = .ok (.iconst 1, 1) := dk_4 (dk_at dksL_law_3 12 rfl rfl)
theorem dL_law_181 : decode cL_law 181 = .ok (.iadd, 1) := dk_96 (dk_at dksL_law_3 13 rfl rfl)
theorem dL_law_182 : decode cL_law 182 = .ok (.iaload, 1) := dk_46 (dk_at dksL_law_3 14 rfl rfl)
theorem dL_law_183 : decode cL_law 183 = .ok (.invokevirtual 17, 3) := dk_182 0 17 (dk_at dksL_law_3 15 rfl rfl)
theorem dL_law_186 : decode cL_law 186 = .ok (.if_icmp .eq 888, 3) := dk_159 3 120 (dk_at dksL_law_3 18 rfl rfl)
theorem dL_law_189 : decode cL_law 189 = .ok (.iconst 0, 1) := dk_3 (dk_at dksL_law_3 21 rfl rfl)
theorem dL_law_190 : decode cL_law 190 = .ok (.ireturn, 1) := dk_172 (dk_at dksL_law_3 22 rfl rfl)
theorem dL_law_191 : decode cL_law 191 = .ok (.aload_n 1, 1) := dk_43 (dk_at dksL_law_3 23 rfl rfl)
theorem dL_law_192 : decode cL_law 192 = .ok (.aload_n 0, 1) := dk_42 (dk_at dksL_law_4 0 rfl rfl)
theorem dL_law_193 : decode cL_law 193 = .ok (.iload_n 3, 1) := dk_29 (dk_at dksL_law_4 1 rfl rfl)
theorem dL_law_194 : decode cL_law 194 = .ok (.iconst 1, 1) := dk_4 (dk_at dksL_law_4 2 rfl rfl)
theorem dL_law_195 : decode cL_law 195 = .ok (.iadd, 1) := dk_96 (dk_at dksL_law_4 3 rfl rfl)
theorem dL_law_196 : decode cL_law 196 = .ok (.iaload, 1) := dk_46 (dk_at dksL_law_4 4 rfl rfl)
theorem dL_law_197 : decode cL_law 197 = .ok (.invokevirtual 18, 3) := dk_182 0 18 (dk_at dksL_law_4 5 rfl rfl)
theorem dL_law_200 : decode cL_law 200 = .ok (.aload_n 2, 1) := dk_44 (dk_at dksL_law_4 8 rfl rfl)
theorem dL_law_201 : decode cL_law 201 = .ok (.aload_n 0, 1) := dk_42 (dk_at dksL_law_4 9 rfl rfl)
theorem dL_law_202 : decode cL_law 202 = .ok (.iload_n 3, 1) := dk_29 (dk_at dksL_law_4 10 rfl rfl)
theorem dL_law_203 : decode cL_law 203 = .ok (.iconst 1, 1) := dk_4 (dk_at dksL_law_4 11 rfl rfl)
theorem dL_law_204 : decode cL_law 204 = .ok (.iadd, 1) := dk_96 (dk_at dksL_law_4 12 rfl rfl)
theorem dL_law_205 : decode cL_law 205 = .ok (.iaload, 1) := dk_46 (dk_at dksL_law_4 13 rfl rfl)
theorem dL_law_206 : decode cL_law 206 = .ok (.invokevirtual 21, 3) := dk_182 0 21 (dk_at dksL_law_4 14 rfl rfl)
theorem dL_law_209 : decode cL_law 209 = .ok (.if_icmp .eq 865, 3) := dk_159 3 97 (dk_at dksL_law_4 17 rfl rfl)
theorem dL_law_212 : decode cL_law 212 = .ok (.iconst 0, 1) := dk_3 (dk_at dksL_law_4 20 rfl rfl)
theorem dL_law_213 : decode cL_law 213 = .ok (.ireturn, 1) := dk_172 (dk_at dksL_law_4 21 rfl rfl)
theorem dL_law_214 : decode cL_law 214 = .ok (.aload_n 1, 1) := dk_43 (dk_at dksL_law_4 22 rfl rfl)
theorem dL_law_215 : decode cL_law 215 = .ok (.aload_n 0, 1) := dk_42 (dk_at dksL_law_4 23 rfl rfl)
theorem dL_law_216 : decode cL_law 216 = .ok (.iload_n 3, 1) := dk_29 (dk_at dksL_law_5 0 rfl rfl)
theorem dL_law_217 : decode cL_law 217 = .ok (.iconst 1, 1) := dk_4 (dk_at dksL_law_5 1 rfl rfl)
theorem dL_law_218 : decode cL_law 218 = .ok (.iadd, 1) := dk_96 (dk_at dksL_law_5 2 rfl rfl)
theorem dL_law_219 : decode cL_law 219 = .ok (.iaload, 1) := dk_46 (dk_at dksL_law_5 3 rfl rfl)
theorem dL_law_220 : decode cL_law 220 = .ok (.invokevirtual 22, 3) := dk_182 0 22 (dk_at dksL_law_5 4 rfl rfl)
theorem dL_law_223 : decode cL_law 223 = .ok (.aload_n 2, 1) := dk_44 (dk_at dksL_law_5 7 rfl rfl)
theorem dL_law_224 : decode cL_law 224 = .ok (.aload_n 0, 1) := dk_42 (dk_at dksL_law_5 8 rfl rfl)
theorem dL_law_225 : decode cL_law 225 = .ok (.iload_n 3, 1) := dk_29 (dk_at dksL_law_5 9 rfl rfl)
theorem dL_law_226 : decode cL_law 226 = .ok (.iconst 1, 1) := dk_4 (dk_at dksL_law_5 10 rfl rfl)
theorem dL_law_227 : decode cL_law 227 = .ok (.iadd, 1) := dk_96 (dk_at dksL_law_5 11 rfl rfl)
theorem dL_law_228 : decode cL_law 228 = .ok (.iaload, 1) := dk_46 (dk_at dksL_law_5 12 rfl rfl)
theorem dL_law_229 : decode cL_law 229 = .ok (.invokevirtual 25, 3) := dk_182 0 25 (dk_at dksL_law_5 13 rfl rfl)
theorem dL_law_232 : decode cL_law 232 = .ok (.if_icmp .eq 842, 3) := dk_159 3 74 (dk_at dksL_law_5 16 rfl rfl)
theorem dL_law_235 : decode cL_law 235 = .ok (.iconst 0, 1) := dk_3 (dk_at dksL_law_5 19 rfl rfl)
theorem dL_law_236 : decode cL_law 236 = .ok (.ireturn, 1) := dk_172 (dk_at dksL_law_5 20 rfl rfl)
theorem dL_law_237 : decode cL_law 237 = .ok (.aload_n 1, 1) := dk_43 (dk_at dksL_law_5 21 rfl rfl)
theorem dL_law_238 : decode cL_law 238 = .ok (.aload_n 0, 1) := dk_42 (dk_at dksL_law_5 22 rfl rfl)
theorem dL_law_239 : decode cL_law 239 = .ok (.iload_n 3, 1) := dk_29 (dk_at dksL_law_5 23 rfl rfl)
theorem dL_law_240 : decode cL_law 240 = .ok (.iconst 1, 1) := dk_4 (dk_at dksL_law_6 0 rfl rfl)
theorem dL_law_241 : decode cL_law 241 = .ok (.iadd, 1) := dk_96 (dk_at dksL_law_6 1 rfl rfl)
theorem dL_law_242 : decode cL_law 242 = .ok (.iaload, 1) := dk_46 (dk_at dksL_law_6 2 rfl rfl)
theorem dL_law_243 : decode cL_law 243 = .ok (.aload_n 0, 1) := dk_42 (dk_at dksL_law_6 3 rfl rfl)
theorem dL_law_244 : decode cL_law 244 = .ok (.iload_n 3, 1) := dk_29 (dk_at dksL_law_6 4 rfl rfl)
theorem dL_law_245 : decode cL_law 245 = .ok (.iconst 2, 1) := dk_5 (dk_at dksL_law_6 5 rfl rfl)
theorem dL_law_246 : decode cL_law 246 = .ok (.iadd, 1) := dk_96 (dk_at dksL_law_6 6 rfl rfl)
theorem dL_law_247 : decode cL_law 247 = .ok (.iaload, 1) := dk_46 (dk_at dksL_law_6 7 rfl rfl)
theorem dL_law_248 : decode cL_law 248 = .ok (.aload_n 0, 1) := dk_42 (dk_at dksL_law_6 8 rfl rfl)
theorem dL_law_249 : decode cL_law 249 = .ok (.iload_n 3, 1) := dk_29 (dk_at dksL_law_6 9 rfl rfl)
theorem dL_law_250 : decode cL_law 250 = .ok (.iconst 3, 1) := dk_6 (dk_at dksL_law_6 10 rfl rfl)
theorem dL_law_251 : decode cL_law 251 = .ok (.iadd, 1) := dk_96 (dk_at dksL_law_6 11 rfl rfl)
theorem dL_law_252 : decode cL_law 252 = .ok (.iaload, 1) := dk_46 (dk_at dksL_law_6 12 rfl rfl)
theorem dL_law_253 : decode cL_law 253 = .ok (.ifCond .eq 7, 3) := dk_153 0 7 (dk_at dksL_law_6 13 rfl rfl)
theorem dL_law_256 : decode cL_law 256 = .ok (.iconst 1, 1) := dk_4 (dk_at dksL_law_6 16 rfl rfl)
theorem dL_law_257 : decode cL_law 257 = .ok (.goto 4, 3) := dk_167 0 4 (dk_at dksL_law_6 17 rfl rfl)
theorem dL_law_260 : decode cL_law 260 = .ok (.iconst 0, 1) := dk_3 (dk_at dksL_law_6 20 rfl rfl)
theorem dL_law_261 : decode cL_law 261 = .ok (.invokevirtual 26, 3) := dk_182 0 26 (dk_at dksL_law_6 21 rfl rfl)
theorem dL_law_264 : decode cL_law 264 = .ok (.aload_n 2, 1) := dk_44 (dk_at dksL_law_7 0 rfl rfl)
theorem dL_law_265 : decode cL_law 265 = .ok (.aload_n 0, 1) := dk_42 (dk_at dksL_law_7 1 rfl rfl)
theorem dL_law_266 : decode cL_law 266 = .ok (.iload_n 3, 1) := dk_29 (dk_at dksL_law_7 2 rfl rfl)
theorem dL_law_267 : decode cL_law 267 = .ok (.iconst 1, 1) := dk_4 (dk_at dksL_law_7 3 rfl rfl)
theorem dL_law_268 : decode cL_law 268 = .ok (.iadd, 1) := dk_96 (dk_at dksL_law_7 4 rfl rfl)
theorem dL_law_269 : decode cL_law 269 = .ok (.iaload, 1) := dk_46 (dk_at dksL_law_7 5 rfl rfl)
theorem dL_law_270 : decode cL_law 270 = .ok (.aload_n 0, 1) := dk_42 (dk_at dksL_law_7 6 rfl rfl)
theorem dL_law_271 : decode cL_law 271 = .ok (.iload_n 3, 1) := dk_29 (dk_at dksL_law_7 7 rfl rfl)
theorem dL_law_272 : decode cL_law 272 = .ok (.iconst 2, 1) := dk_5 (dk_at dksL_law_7 8 rfl rfl)
theorem dL_law_273 : decode cL_law 273 = .ok (.iadd, 1) := dk_96 (dk_at dksL_law_7 9 rfl rfl)
theorem dL_law_274 : decode cL_law 274 = .ok (.iaload, 1) := dk_46 (dk_at dksL_law_7 10 rfl rfl)
theorem dL_law_275 : decode cL_law 275 = .ok (.aload_n 0, 1) := dk_42 (dk_at dksL_law_7 11 rfl rfl)
theorem dL_law_276 : decode cL_law 276 = .ok (.iload_n 3, 1) := dk_29 (dk_at dksL_law_7 12 rfl rfl)
theorem dL_law_277 : decode cL_law 277 = .ok (.iconst 3, 1) := dk_6 (dk_at dksL_law_7 13 rfl rfl)
theorem dL_law_278 : decode cL_law 278 = .ok (.iadd, 1) := dk_96 (dk_at dksL_law_7 14 rfl rfl)
theorem dL_law_279 : decode cL_law 279 = .ok (.iaload, 1) := dk_46 (dk_at dksL_law_7 15 rfl rfl)
theorem dL_law_280 : decode cL_law 280 = .ok (.ifCond .eq 7, 3) := dk_153 0 7 (dk_at dksL_law_7 16 rfl rfl)
theorem dL_law_283 : decode cL_law 283 = .ok (.iconst 1, 1) := dk_4 (dk_at dksL_law_7 19 rfl rfl)
theorem dL_law_284 : decode cL_law 284 = .ok (.goto 4, 3) := dk_167 0 4 (dk_at dksL_law_7 20 rfl rfl)
theorem dL_law_287 : decode cL_law 287 = .ok (.iconst 0, 1) := dk_3 (dk_at dksL_law_7 23 rfl rfl)
theorem dL_law_288 : decode cL_law 288 = .ok (.invokevirtual 30, 3) := dk_182 0 30 (dk_at dksL_law_8 0 rfl rfl)
theorem dL_law_291 : decode cL_law 291 = .ok (.if_icmp .eq 783, 3) := dk_159 3 15 (dk_at dksL_law_8 3 rfl rfl)
theorem dL_law_294 : decode cL_law 294 = .ok (.iconst 0, 1) := dk_3 (dk_at dksL_law_8 6 rfl rfl)
theorem dL_law_295 : decode cL_law 295 = .ok (.ireturn, 1) := dk_172 (dk_at dksL_law_8 7 rfl rfl)
theorem dL_law_296 : decode cL_law 296 = .ok (.aload_n 1, 1) := dk_43 (dk_at dksL_law_8 8 rfl rfl)
theorem dL_law_297 : decode cL_law 297 = .ok (.aload_n 0, 1) := dk_42 (dk_at dksL_law_8 9 rfl rfl)
theorem dL_law_298 : decode cL_law 298 = .ok (.iload_n 3, 1) := dk_29 (dk_at dksL_law_8 10 rfl rfl)
theorem dL_law_299 : decode cL_law 299 = .ok (.iconst 1, 1) := dk_4 (dk_at dksL_law_8 11 rfl rfl)
theorem dL_law_300 : decode cL_law 300 = .ok (.iadd, 1) := dk_96 (dk_at dksL_law_8 12 rfl rfl)
theorem dL_law_301 : decode cL_law 301 = .ok (.iaload, 1) := dk_46 (dk_at dksL_law_8 13 rfl rfl)
theorem dL_law_302 : decode cL_law 302 = .ok (.invokevirtual 31, 3) := dk_182 0 31 (dk_at dksL_law_8 14 rfl rfl)
theorem dL_law_305 : decode cL_law 305 = .ok (.aload_n 2, 1) := dk_44 (dk_at dksL_law_8 17 rfl rfl)
theorem dL_law_306 : decode cL_law 306 = .ok (.aload_n 0, 1) := dk_42 (dk_at dksL_law_8 18 rfl rfl)
theorem dL_law_307 : decode cL_law 307 = .ok (.iload_n 3, 1) := dk_29 (dk_at dksL_law_8 19 rfl rfl)
theorem dL_law_308 : decode cL_law 308 = .ok (.iconst 1, 1) := dk_4 (dk_at dksL_law_8 20 rfl rfl)
theorem dL_law_309 : decode cL_law 309 = .ok (.iadd, 1) := dk_96 (dk_at dksL_law_8 21 rfl rfl)
theorem dL_law_310 : decode cL_law 310 = .ok (.iaload, 1) := dk_46 (dk_at dksL_law_8 22 rfl rfl)
theorem dL_law_311 : decode cL_law 311 = .ok (.invokevirtual 34, 3) := dk_182 0 34 (dk_at dksL_law_9 0 rfl rfl)
theorem dL_law_314 : decode cL_law 314 = .ok (.if_icmp .eq 760, 3) := dk_159 2 248 (dk_at dksL_law_9 3 rfl rfl)
theorem dL_law_317 : decode cL_law 317 = .ok (.iconst 0, 1) := dk_3 (dk_at dksL_law_9 6 rfl rfl)
theorem dL_law_318 : decode cL_law 318 = .ok (.ireturn, 1) := dk_172 (dk_at dksL_law_9 7 rfl rfl)
theorem dL_law_319 : decode cL_law 319 = .ok (.aload_n 1, 1) := dk_43 (dk_at dksL_law_9 8 rfl rfl)
theorem dL_law_320 : decode cL_law 320 = .ok (.aload_n 0, 1) := dk_42 (dk_at dksL_law_9 9 rfl rfl)
theorem dL_law_321 : decode cL_law 321 = .ok (.iload_n 3, 1) := dk_29 (dk_at dksL_law_9 10 rfl rfl)
theorem dL_law_322 : decode cL_law 322 = .ok (.iconst 1, 1) := dk_4 (dk_at dksL_law_9 11 rfl rfl)
theorem dL_law_323 : decode cL_law 323 = .ok (.iadd, 1) := dk_96 (dk_at dksL_law_9 12 rfl rfl)
theorem dL_law_324 : decode cL_law 324 = .ok (.iaload, 1) := dk_46 (dk_at dksL_law_9 13 rfl rfl)
theorem dL_law_325 : decode cL_law 325 = .ok (.aload_n 0, 1) := dk_42 (dk_at dksL_law_9 14 rfl rfl)
theorem dL_law_326 : decode cL_law 326 = .ok (.iload_n 3, 1) := dk_29 (dk_at dksL_law_9 15 rfl rfl)
theorem dL_law_327 : decode cL_law 327 = .ok (.iconst 2, 1) := dk_5 (dk_at dksL_law_9 16 rfl rfl)
theorem dL_law_328 : decode cL_law 328 = .ok (.iadd, 1) := dk_96 (dk_at dksL_law_9 17 rfl rfl)
theorem dL_law_329 : decode cL_law 329 = .ok (.iaload, 1) := dk_46 (dk_at dksL_law_9 18 rfl rfl)
theorem dL_law_330 : decode cL_law 330 = .ok (.aload_n 0, 1) := dk_42 (dk_at dksL_law_9 19 rfl rfl)
theorem dL_law_331 : decode cL_law 331 = .ok (.iload_n 3, 1) := dk_29 (dk_at dksL_law_9 20 rfl rfl)
theorem dL_law_332 : decode cL_law 332 = .ok (.iconst 3, 1) := dk_6 (dk_at dksL_law_9 21 rfl rfl)
theorem dL_law_333 : decode cL_law 333 = .ok (.iadd, 1) := dk_96 (dk_at dksL_law_9 22 rfl rfl)
theorem dL_law_334 : decode cL_law 334 = .ok (.iaload, 1) := dk_46 (dk_at dksL_law_9 23 rfl rfl)
theorem dL_law_335 : decode cL_law 335 = .ok (.invokevirtual 35, 3) := dk_182 0 35 (dk_at dksL_law_10 0 rfl rfl)
theorem dL_law_338 : decode cL_law 338 = .ok (.aload_n 2, 1) := dk_44 (dk_at dksL_law_10 3 rfl rfl)
theorem dL_law_339 : decode cL_law 339 = .ok (.aload_n 0, 1) := dk_42 (dk_at dksL_law_10 4 rfl rfl)
theorem dL_law_340 : decode cL_law 340 = .ok (.iload_n 3, 1) := dk_29 (dk_at dksL_law_10 5 rfl rfl)
theorem dL_law_341 : decode cL_law 341 = .ok (.iconst 1, 1) := dk_4 (dk_at dksL_law_10 6 rfl rfl)
theorem dL_law_342 : decode cL_law 342 = .ok (.iadd, 1) := dk_96 (dk_at dksL_law_10 7 rfl rfl)
theorem dL_law_343 : decode cL_law 343 = .ok (.iaload, 1) := dk_46 (dk_at dksL_law_10 8 rfl rfl)
theorem dL_law_344 : decode cL_law 344 = .ok (.aload_n 0, 1) := dk_42 (dk_at dksL_law_10 9 rfl rfl)
theorem dL_law_345 : decode cL_law 345 = .ok (.iload_n 3, 1) := dk_29 (dk_at dksL_law_10 10 rfl rfl)
theorem dL_law_346 : decode cL_law 346 = .ok (.iconst 2, 1) := dk_5 (dk_at dksL_law_10 11 rfl rfl)
theorem dL_law_347 : decode cL_law 347 = .ok (.iadd, 1) := dk_96 (dk_at dksL_law_10 12 rfl rfl)
theorem dL_law_348 : decode cL_law 348 = .ok (.iaload, 1) := dk_46 (dk_at dksL_law_10 13 rfl rfl)
theorem dL_law_349 : decode cL_law 349 = .ok (.aload_n 0, 1) := dk_42 (dk_at dksL_law_10 14 rfl rfl)
theorem dL_law_350 : decode cL_law 350 = .ok (.iload_n 3, 1) := dk_29 (dk_at dksL_law_10 15 rfl rfl)
theorem dL_law_351 : decode cL_law 351 = .ok (.iconst 3, 1) := dk_6 (dk_at dksL_law_10 16 rfl rfl)
theorem dL_law_352 : decode cL_law 352 = .ok (.iadd, 1) := dk_96 (dk_at dksL_law_10 17 rfl rfl)
theorem dL_law_353 : decode cL_law 353 = .ok (.iaload, 1) := dk_46 (dk_at dksL_law_10 18 rfl rfl)
theorem dL_law_354 : decode cL_law 354 = .ok (.invokevirtual 39, 3) := dk_182 0 39 (dk_at dksL_law_10 19 rfl rfl)
theorem dL_law_357 : decode cL_law 357 = .ok (.if_icmp .eq 717, 3) := dk_159 2 205 (dk_at dksL_law_11 0 rfl rfl)
theorem dL_law_360 : decode cL_law 360 = .ok (.iconst 0, 1) := dk_3 (dk_at dksL_law_11 3 rfl rfl)
theorem dL_law_361 : decode cL_law 361 = .ok (.ireturn, 1) := dk_172 (dk_at dksL_law_11 4 rfl rfl)
theorem dL_law_362 : decode cL_law 362 = .ok (.aload_n 1, 1) := dk_43 (dk_at dksL_law_11 5 rfl rfl)
theorem dL_law_363 : decode cL_law 363 = .ok (.aload_n 0, 1) := dk_42 (dk_at dksL_law_11 6 rfl rfl)
theorem dL_law_364 : decode cL_law 364 = .ok (.iload_n 3, 1) := dk_29 (dk_at dksL_law_11 7 rfl rfl)
theorem dL_law_365 : decode cL_law 365 = .ok (.iconst 1, 1) := dk_4 (dk_at dksL_law_11 8 rfl rfl)
theorem dL_law_366 : decode cL_law 366 = .ok (.iadd, 1) := dk_96 (dk_at dksL_law_11 9 rfl rfl)
theorem dL_law_367 : decode cL_law 367 = .ok (.iaload, 1) := dk_46 (dk_at dksL_law_11 10 rfl rfl)
theorem dL_law_368 : decode cL_law 368 = .ok (.aload_n 0, 1) := dk_42 (dk_at dksL_law_11 11 rfl rfl)
theorem dL_law_369 : decode cL_law 369 = .ok (.iload_n 3, 1) := dk_29 (dk_at dksL_law_11 12 rfl rfl)
theorem dL_law_370 : decode cL_law 370 = .ok (.iconst 2, 1) := dk_5 (dk_at dksL_law_11 13 rfl rfl)
theorem dL_law_371 : decode cL_law 371 = .ok (.iadd, 1) := dk_96 (dk_at dksL_law_11 14 rfl rfl)
theorem dL_law_372 : decode cL_law 372 = .ok (.iaload, 1) := dk_46 (dk_at dksL_law_11 15 rfl rfl)
theorem dL_law_373 : decode cL_law 373 = .ok (.invokevirtual 40, 3) := dk_182 0 40 (dk_at dksL_law_11 16 rfl rfl)
theorem dL_law_376 : decode cL_law 376 = .ok (.aload_n 2, 1) := dk_44 (dk_at dksL_law_11 19 rfl rfl)
theorem dL_law_377 : decode cL_law 377 = .ok (.aload_n 0, 1) := dk_42 (dk_at dksL_law_11 20 rfl rfl)
theorem dL_law_378 : decode cL_law 378 = .ok (.iload_n 3, 1) := dk_29 (dk_at dksL_law_11 21 rfl rfl)
theorem dL_law_379 : decode cL_law 379 = .ok (.iconst 1, 1) := dk_4 (dk_at dksL_law_11 22 rfl rfl)
theorem dL_law_380 : decode cL_law 380 = .ok (.iadd, 1) := dk_96 (dk_at dksL_law_11 23 rfl rfl)
theorem dL_law_381 : decode cL_law 381 = .ok (.iaload, 1) := dk_46 (dk_at dksL_law_12 0 rfl rfl)
theorem dL_law_382 : decode cL_law 382 = .ok (.aload_n 0, 1) := dk_42 (dk_at dksL_law_12 1 rfl rfl)
theorem dL_law_383 : decode cL_law 383 = .ok (.iload_n 3, 1) := dk_29 (dk_at dksL_law_12 2 rfl rfl)
theorem dL_law_384 : decode cL_law 384 = .ok (.iconst 2, 1) := dk_5 (dk_at dksL_law_12 3 rfl rfl)
theorem dL_law_385 : decode cL_law 385 = .ok (.iadd, 1) := dk_96 (dk_at dksL_law_12 4 rfl rfl)
theorem dL_law_386 : decode cL_law 386 = .ok (.iaload, 1) := dk_46 (dk_at dksL_law_12 5 rfl rfl)
theorem dL_law_387 : decode cL_law 387 = .ok (.invokevirtual 44, 3) := dk_182 0 44 (dk_at dksL_law_12 6 rfl rfl)
theorem dL_law_390 : decode cL_law 390 = .ok (.if_icmp .eq 684, 3) := dk_159 2 172 (dk_at dksL_law_12 9 rfl rfl)
theorem dL_law_393 : decode cL_law 393 = .ok (.iconst 0, 1) := dk_3 (dk_at dksL_law_12 12 rfl rfl)
theorem dL_law_394 : decode cL_law 394 = .ok (.ireturn, 1) := dk_172 (dk_at dksL_law_12 13 rfl rfl)
theorem dL_law_395 : decode cL_law 395 = .ok (.aload_n 1, 1) := dk_43 (dk_at dksL_law_12 14 rfl rfl)
theorem dL_law_396 : decode cL_law 396 = .ok (.aload_n 0, 1) := dk_42 (dk_at dksL_law_12 15 rfl rfl)
theorem dL_law_397 : decode cL_law 397 = .ok (.iload_n 3, 1) := dk_29 (dk_at dksL_law_12 16 rfl rfl)
theorem dL_law_398 : decode cL_law 398 = .ok (.iconst 1, 1) := dk_4 (dk_at dksL_law_12 17 rfl rfl)
theorem dL_law_399 : decode cL_law 399 = .ok (.iadd, 1) := dk_96 (dk_at dksL_law_12 18 rfl rfl)
theorem dL_law_400 : decode cL_law 400 = .ok (.iaload, 1) := dk_46 (dk_at dksL_law_12 19 rfl rfl)
theorem dL_law_401 : decode cL_law 401 = .ok (.aload_n 0, 1) := dk_42 (dk_at dksL_law_12 20 rfl rfl)
theorem dL_law_402 : decode cL_law 402 = .ok (.iload_n 3, 1) := dk_29 (dk_at dksL_law_12 21 rfl rfl)
theorem dL_law_403 : decode cL_law 403 = .ok (.iconst 2, 1) := dk_5 (dk_at dksL_law_12 22 rfl rfl)
theorem dL_law_404 : decode cL_law 404 = .ok (.iadd, 1) := dk_96 (dk_at dksL_law_12 23 rfl rfl)
theorem dL_law_405 : decode cL_law 405 = .ok (.iaload, 1) := dk_46 (dk_at dksL_law_13 0 rfl rfl)
theorem dL_law_406 : decode cL_law 406 = .ok (.invokevirtual 45, 3) := dk_182 0 45 (dk_at dksL_law_13 1 rfl rfl)
theorem dL_law_409 : decode cL_law 409 = .ok (.aload_n 2, 1) := dk_44 (dk_at dksL_law_13 4 rfl rfl)
theorem dL_law_410 : decode cL_law 410 = .ok (.aload_n 0, 1) := dk_42 (dk_at dksL_law_13 5 rfl rfl)
theorem dL_law_411 : decode cL_law 411 = .ok (.iload_n 3, 1) := dk_29 (dk_at dksL_law_13 6 rfl rfl)
theorem dL_law_412 : decode cL_law 412 = .ok (.iconst 1, 1) := dk_4 (dk_at dksL_law_13 7 rfl rfl)
theorem dL_law_413 : decode cL_law 413 = .ok (.iadd, 1) := dk_96 (dk_at dksL_law_13 8 rfl rfl)
theorem dL_law_414 : decode cL_law 414 = .ok (.iaload, 1) := dk_46 (dk_at dksL_law_13 9 rfl rfl)
theorem dL_law_415 : decode cL_law 415 = .ok (.aload_n 0, 1) := dk_42 (dk_at dksL_law_13 10 rfl rfl)
theorem dL_law_416 : decode cL_law 416 = .ok (.iload_n 3, 1) := dk_29 (dk_at dksL_law_13 11 rfl rfl)
theorem dL_law_417 : decode cL_law 417 = .ok (.iconst 2, 1) := dk_5 (dk_at dksL_law_13 12 rfl rfl)
theorem dL_law_418 : decode cL_law 418 = .ok (.iadd, 1) := dk_96 (dk_at dksL_law_13 13 rfl rfl)
theorem dL_law_419 : decode cL_law 419 = .ok (.iaload, 1) := dk_46 (dk_at dksL_law_13 14 rfl rfl)
theorem dL_law_420 : decode cL_law 420 = .ok (.invokevirtual 48, 3) := dk_182 0 48 (dk_at dksL_law_13 15 rfl rfl)
theorem dL_law_423 : decode cL_law 423 = .ok (.if_icmp .eq 651, 3) := dk_159 2 139 (dk_at dksL_law_13 18 rfl rfl)
theorem dL_law_426 : decode cL_law 426 = .ok (.iconst 0, 1) := dk_3 (dk_at dksL_law_13 21 rfl rfl)
theorem dL_law_427 : decode cL_law 427 = .ok (.ireturn, 1) := dk_172 (dk_at dksL_law_13 22 rfl rfl)
theorem dL_law_428 : decode cL_law 428 = .ok (.aload_n 1, 1) := dk_43 (dk_at dksL_law_13 23 rfl rfl)
theorem dL_law_429 : decode cL_law 429 = .ok (.aload_n 0, 1) := dk_42 (dk_at dksL_law_14 0 rfl rfl)
theorem dL_law_430 : decode cL_law 430 = .ok (.iload_n 3, 1) := dk_29 (dk_at dksL_law_14 1 rfl rfl)
theorem dL_law_431 : decode cL_law 431 = .ok (.iconst 1, 1) := dk_4 (dk_at dksL_law_14 2 rfl rfl)
theorem dL_law_432 : decode cL_law 432 = .ok (.iadd, 1) := dk_96 (dk_at dksL_law_14 3 rfl rfl)
theorem dL_law_433 : decode cL_law 433 = .ok (.iaload, 1) := dk_46 (dk_at dksL_law_14 4 rfl rfl)
theorem dL_law_434 : decode cL_law 434 = .ok (.aload_n 0, 1) := dk_42 (dk_at dksL_law_14 5 rfl rfl)
theorem dL_law_435 : decode cL_law 435 = .ok (.iload_n 3, 1) := dk_29 (dk_at dksL_law_14 6 rfl rfl)
theorem dL_law_436 : decode cL_law 436 = .ok (.iconst 2, 1) := dk_5 (dk_at dksL_law_14 7 rfl rfl)
theorem dL_law_437 : decode cL_law 437 = .ok (.iadd, 1) := dk_96 (dk_at dksL_law_14 8 rfl rfl)
theorem dL_law_438 : decode cL_law 438 = .ok (.iaload, 1) := dk_46 (dk_at dksL_law_14 9 rfl rfl)
theorem dL_law_439 : decode cL_law 439 = .ok (.aload_n 0, 1) := dk_42 (dk_at dksL_law_14 10 rfl rfl)
theorem dL_law_440 : decode cL_law 440 = .ok (.iload_n 3, 1) := dk_29 (dk_at dksL_law_14 11 rfl rfl)
theorem dL_law_441 : decode cL_law 441 = .ok (.iconst 3, 1) := dk_6 (dk_at dksL_law_14 12 rfl rfl)
theorem dL_law_442 : decode cL_law 442 = .ok (.iadd, 1) := dk_96 (dk_at dksL_law_14 13 rfl rfl)
theorem dL_law_443 : decode cL_law 443 = .ok (.iaload, 1) := dk_46 (dk_at dksL_law_14 14 rfl rfl)
theorem dL_law_444 : decode cL_law 444 = .ok (.aload_n 0, 1) := dk_42 (dk_at dksL_law_14 15 rfl rfl)
theorem dL_law_445 : decode cL_law 445 = .ok (.iload_n 3, 1) := dk_29 (dk_at dksL_law_14 16 rfl rfl)
theorem dL_law_446 : decode cL_law 446 = .ok (.iconst 4, 1) := dk_7 (dk_at dksL_law_14 17 rfl rfl)
theorem dL_law_447 : decode cL_law 447 = .ok (.iadd, 1) := dk_96 (dk_at dksL_law_14 18 rfl rfl)
theorem dL_law_448 : decode cL_law 448 = .ok (.iaload, 1) := dk_46 (dk_at dksL_law_14 19 rfl rfl)
theorem dL_law_449 : decode cL_law 449 = .ok (.aload_n 0, 1) := dk_42 (dk_at dksL_law_14 20 rfl rfl)
theorem dL_law_450 : decode cL_law 450 = .ok (.iload_n 3, 1) := dk_29 (dk_at dksL_law_14 21 rfl rfl)
theorem dL_law_451 : decode cL_law 451 = .ok (.iconst 5, 1) := dk_8 (dk_at dksL_law_14 22 rfl rfl)
theorem dL_law_452 : decode cL_law 452 = .ok (.iadd, 1) := dk_96 (dk_at dksL_law_14 23 rfl rfl)
theorem dL_law_453 : decode cL_law 453 = .ok (.iaload, 1) := dk_46 (dk_at dksL_law_15 0 rfl rfl)
theorem dL_law_454 : decode cL_law 454 = .ok (.invokevirtual 49, 3) := dk_182 0 49 (dk_at dksL_law_15 1 rfl rfl)
theorem dL_law_457 : decode cL_law 457 = .ok (.aload_n 2, 1) := dk_44 (dk_at dksL_law_15 4 rfl rfl)
theorem dL_law_458 : decode cL_law 458 = .ok (.aload_n 0, 1) := dk_42 (dk_at dksL_law_15 5 rfl rfl)
theorem dL_law_459 : decode cL_law 459 = .ok (.iload_n 3, 1) := dk_29 (dk_at dksL_law_15 6 rfl rfl)
theorem dL_law_460 : decode cL_law 460 = .ok (.iconst 1, 1) := dk_4 (dk_at dksL_law_15 7 rfl rfl)
theorem dL_law_461 : decode cL_law 461 = .ok (.iadd, 1) := dk_96 (dk_at dksL_law_15 8 rfl rfl)
theorem dL_law_462 : decode cL_law 462 = .ok (.iaload, 1) := dk_46 (dk_at dksL_law_15 9 rfl rfl)
theorem dL_law_463 : decode cL_law 463 = .ok (.aload_n 0, 1) := dk_42 (dk_at dksL_law_15 10 rfl rfl)
theorem dL_law_464 : decode cL_law 464 = .ok (.iload_n 3, 1) := dk_29 (dk_at dksL_law_15 11 rfl rfl)
theorem dL_law_465 : decode cL_law 465 = .ok (.iconst 2, 1) := dk_5 (dk_at dksL_law_15 12 rfl rfl)
theorem dL_law_466 : decode cL_law 466 = .ok (.iadd, 1) := dk_96 (dk_at dksL_law_15 13 rfl rfl)
theorem dL_law_467 : decode cL_law 467 = .ok (.iaload, 1) := dk_46 (dk_at dksL_law_15 14 rfl rfl)
theorem dL_law_468 : decode cL_law 468 = .ok (.aload_n 0, 1) := dk_42 (dk_at dksL_law_15 15 rfl rfl)
theorem dL_law_469 : decode cL_law 469 = .ok (.iload_n 3, 1) := dk_29 (dk_at dksL_law_15 16 rfl rfl)
theorem dL_law_470 : decode cL_law 470 = .ok (.iconst 3, 1) := dk_6 (dk_at dksL_law_15 17 rfl rfl)
theorem dL_law_471 : decode cL_law 471 = .ok (.iadd, 1) := dk_96 (dk_at dksL_law_15 18 rfl rfl)
theorem dL_law_472 : decode cL_law 472 = .ok (.iaload, 1) := dk_46 (dk_at dksL_law_15 19 rfl rfl)
theorem dL_law_473 : decode cL_law 473 = .ok (.aload_n 0, 1) := dk_42 (dk_at dksL_law_15 20 rfl rfl)
theorem dL_law_474 : decode cL_law 474 = .ok (.iload_n 3, 1) := dk_29 (dk_at dksL_law_15 21 rfl rfl)
theorem dL_law_475 : decode cL_law 475 = .ok (.iconst 4, 1) := dk_7 (dk_at dksL_law_15 22 rfl rfl)
theorem dL_law_476 : decode cL_law 476 = .ok (.iadd, 1) := dk_96 (dk_at dksL_law_15 23 rfl rfl)
theorem dL_law_477 : decode cL_law 477 = .ok (.iaload, 1) := dk_46 (dk_at dksL_law_16 0 rfl rfl)
theorem dL_law_478 : decode cL_law 478 = .ok (.aload_n 0, 1) := dk_42 (dk_at dksL_law_16 1 rfl rfl)
theorem dL_law_479 : decode cL_law 479 = .ok (.iload_n 3, 1) := dk_29 (dk_at dksL_law_16 2 rfl rfl)
theorem dL_law_480 : decode cL_law 480 = .ok (.iconst 5, 1) := dk_8 (dk_at dksL_law_16 3 rfl rfl)
theorem dL_law_481 : decode cL_law 481 = .ok (.iadd, 1) := dk_96 (dk_at dksL_law_16 4 rfl rfl)
theorem dL_law_482 : decode cL_law 482 = .ok (.iaload, 1) := dk_46 (dk_at dksL_law_16 5 rfl rfl)
theorem dL_law_483 : decode cL_law 483 = .ok (.invokevirtual 53, 3) := dk_182 0 53 (dk_at dksL_law_16 6 rfl rfl)
theorem dL_law_486 : decode cL_law 486 = .ok (.if_icmp .eq 588, 3) := dk_159 2 76 (dk_at dksL_law_16 9 rfl rfl)
theorem dL_law_489 : decode cL_law 489 = .ok (.iconst 0, 1) := dk_3 (dk_at dksL_law_16 12 rfl rfl)
theorem dL_law_490 : decode cL_law 490 = .ok (.ireturn, 1) := dk_172 (dk_at dksL_law_16 13 rfl rfl)
theorem dL_law_491 : decode cL_law 491 = .ok (.aload_n 1, 1) := dk_43 (dk_at dksL_law_16 14 rfl rfl)
theorem dL_law_492 : decode cL_law 492 = .ok (.aload_n 0, 1) := dk_42 (dk_at dksL_law_16 15 rfl rfl)
theorem dL_law_493 : decode cL_law 493 = .ok (.iload_n 3, 1) := dk_29 (dk_at dksL_law_16 16 rfl rfl)
theorem dL_law_494 : decode cL_law 494 = .ok (.iconst 1, 1) := dk_4 (dk_at dksL_law_16 17 rfl rfl)
theorem dL_law_495 : decode cL_law 495 = .ok (.iadd, 1) := dk_96 (dk_at dksL_law_16 18 rfl rfl)
theorem dL_law_496 : decode cL_law 496 = .ok (.iaload, 1) := dk_46 (dk_at dksL_law_16 19 rfl rfl)
theorem dL_law_497 : decode cL_law 497 = .ok (.invokevirtual 54, 3) := dk_182 0 54 (dk_at dksL_law_16 20 rfl rfl)
theorem dL_law_500 : decode cL_law 500 = .ok (.aload_n 2, 1) := dk_44 (dk_at dksL_law_16 23 rfl rfl)
theorem dL_law_501 : decode cL_law 501 = .ok (.aload_n 0, 1) := dk_42 (dk_at dksL_law_17 0 rfl rfl)
theorem dL_law_502 : decode cL_law 502 = .ok (.iload_n 3, 1) := dk_29 (dk_at dksL_law_17 1 rfl rfl)
theorem dL_law_503 : decode cL_law 503 = .ok (.iconst 1, 1) := dk_4 (dk_at dksL_law_17 2 rfl rfl)
theorem dL_law_504 : decode cL_law 504 = .ok (.iadd, 1) := dk_96 (dk_at dksL_law_17 3 rfl rfl)
theorem dL_law_505 : decode cL_law 505 = .ok (.iaload, 1) := dk_46 (dk_at dksL_law_17 4 rfl rfl)
theorem dL_law_506 : decode cL_law 506 = .ok (.invokevirtual 58, 3) := dk_182 0 58 (dk_at dksL_law_17 5 rfl rfl)
theorem dL_law_509 : decode cL_law 509 = .ok (.if_icmp .eq 565, 3) := dk_159 2 53 (dk_at dksL_law_17 8 rfl rfl)
theorem dL_law_512 : decode cL_law 512 = .ok (.iconst 0, 1) := dk_3 (dk_at dksL_law_17 11 rfl rfl)
theorem dL_law_513 : decode cL_law 513 = .ok (.ireturn, 1) := dk_172 (dk_at dksL_law_17 12 rfl rfl)
theorem dL_law_514 : decode cL_law 514 = .ok (.aload_n 1, 1) := dk_43 (dk_at dksL_law_17 13 rfl rfl)
theorem dL_law_515 : decode cL_law 515 = .ok (.aload_n 0, 1) := dk_42 (dk_at dksL_law_17 14 rfl rfl)
theorem dL_law_516 : decode cL_law 516 = .ok (.iload_n 3, 1) := dk_29 (dk_at dksL_law_17 15 rfl rfl)
theorem dL_law_517 : decode cL_law 517 = .ok (.iconst 1, 1) := dk_4 (dk_at dksL_law_17 16 rfl rfl)
theorem dL_law_518 : decode cL_law 518 = .ok (.iadd, 1) := dk_96 (dk_at dksL_law_17 17 rfl rfl)
theorem dL_law_519 : decode cL_law 519 = .ok (.iaload, 1) := dk_46 (dk_at dksL_law_17 18 rfl rfl)
theorem dL_law_520 : decode cL_law 520 = .ok (.invokevirtual 59, 3) := dk_182 0 59 (dk_at dksL_law_17 19 rfl rfl)
theorem dL_law_523 : decode cL_law 523 = .ok (.aload_n 2, 1) := dk_44 (dk_at dksL_law_17 22 rfl rfl)
theorem dL_law_524 : decode cL_law 524 = .ok (.aload_n 0, 1) := dk_42 (dk_at dksL_law_17 23 rfl rfl)
theorem dL_law_525 : decode cL_law 525 = .ok (.iload_n 3, 1) := dk_29 (dk_at dksL_law_18 0 rfl rfl)
theorem dL_law_526 : decode cL_law 526 = .ok (.iconst 1, 1) := dk_4 (dk_at dksL_law_18 1 rfl rfl)
theorem dL_law_527 : decode cL_law 527 = .ok (.iadd, 1) := dk_96 (dk_at dksL_law_18 2 rfl rfl)
theorem dL_law_528 : decode cL_law 528 = .ok (.iaload, 1) := dk_46 (dk_at dksL_law_18 3 rfl rfl)
theorem dL_law_529 : decode cL_law 529 = .ok (.invokevirtual 62, 3) := dk_182 0 62 (dk_at dksL_law_18 4 rfl rfl)
theorem dL_law_532 : decode cL_law 532 = .ok (.if_icmp .eq 542, 3) := dk_159 2 30 (dk_at dksL_law_18 7 rfl rfl)
theorem dL_law_535 : decode cL_law 535 = .ok (.iconst 0, 1) := dk_3 (dk_at dksL_law_18 10 rfl rfl)
theorem dL_law_536 : decode cL_law 536 = .ok (.ireturn, 1) := dk_172 (dk_at dksL_law_18 11 rfl rfl)
theorem dL_law_537 : decode cL_law 537 = .ok (.aload_n 1, 1) := dk_43 (dk_at dksL_law_18 12 rfl rfl)
theorem dL_law_538 : decode cL_law 538 = .ok (.aload_n 0, 1) := dk_42 (dk_at dksL_law_18 13 rfl rfl)
theorem dL_law_539 : decode cL_law 539 = .ok (.iload_n 3, 1) := dk_29 (dk_at dksL_law_18 14 rfl rfl)
theorem dL_law_540 : decode cL_law 540 = .ok (.iconst 1, 1) := dk_4 (dk_at dksL_law_18 15 rfl rfl)
theorem dL_law_541 : decode cL_law 541 = .ok (.iadd, 1) := dk_96 (dk_at dksL_law_18 16 rfl rfl)
theorem dL_law_542 : decode cL_law 542 = .ok (.iaload, 1) := dk_46 (dk_at dksL_law_18 17 rfl rfl)
theorem dL_law_543 : decode cL_law 543 = .ok (.invokevirtual 63, 3) := dk_182 0 63 (dk_at dksL_law_18 18 rfl rfl)
theorem dL_law_546 : decode cL_law 546 = .ok (.aload_n 2, 1) := dk_44 (dk_at dksL_law_18 21 rfl rfl)
theorem dL_law_547 : decode cL_law 547 = .ok (.aload_n 0, 1) := dk_42 (dk_at dksL_law_18 22 rfl rfl)
theorem dL_law_548 : decode cL_law 548 = .ok (.iload_n 3, 1) := dk_29 (dk_at dksL_law_18 23 rfl rfl)
theorem dL_law_549 : decode cL_law 549 = .ok (.iconst 1, 1) := dk_4 (dk_at dksL_law_19 0 rfl rfl)
theorem dL_law_550 : decode cL_law 550 = .ok (.iadd, 1) := dk_96 (dk_at dksL_law_19 1 rfl rfl)
theorem dL_law_551 : decode cL_law 551 = .ok (.iaload, 1) := dk_46 (dk_at dksL_law_19 2 rfl rfl)
theorem dL_law_552 : decode cL_law 552 = .ok (.invokevirtual 66, 3) := dk_182 0 66 (dk_at dksL_law_19 3 rfl rfl)
theorem dL_law_555 : decode cL_law 555 = .ok (.if_icmp .eq 519, 3) := dk_159 2 7 (dk_at dksL_law_19 6 rfl rfl)
theorem dL_law_558 : decode cL_law 558 = .ok (.iconst 0, 1) := dk_3 (dk_at dksL_law_19 9 rfl rfl)
theorem dL_law_559 : decode cL_law 559 = .ok (.ireturn, 1) := dk_172 (dk_at dksL_law_19 10 rfl rfl)
theorem dL_law_560 : decode cL_law 560 = .ok (.aload_n 1, 1) := dk_43 (dk_at dksL_law_19 11 rfl rfl)
theorem dL_law_561 : decode cL_law 561 = .ok (.aload_n 0, 1) := dk_42 (dk_at dksL_law_19 12 rfl rfl)
theorem dL_law_562 : decode cL_law 562 = .ok (.iload_n 3, 1) := dk_29 (dk_at dksL_law_19 13 rfl rfl)
theorem dL_law_563 : decode cL_law 563 = .ok (.iconst 1, 1) := dk_4 (dk_at dksL_law_19 14 rfl rfl)
theorem dL_law_564 : decode cL_law 564 = .ok (.iadd, 1) := dk_96 (dk_at dksL_law_19 15 rfl rfl)
theorem dL_law_565 : decode cL_law 565 = .ok (.iaload, 1) := dk_46 (dk_at dksL_law_19 16 rfl rfl)
theorem dL_law_566 : decode cL_law 566 = .ok (.aload_n 0, 1) := dk_42 (dk_at dksL_law_19 17 rfl rfl)
theorem dL_law_567 : decode cL_law 567 = .ok (.iload_n 3, 1) := dk_29 (dk_at dksL_law_19 18 rfl rfl)
theorem dL_law_568 : decode cL_law 568 = .ok (.iconst 2, 1) := dk_5 (dk_at dksL_law_19 19 rfl rfl)
theorem dL_law_569 : decode cL_law 569 = .ok (.iadd, 1) := dk_96 (dk_at dksL_law_19 20 rfl rfl)
theorem dL_law_570 : decode cL_law 570 = .ok (.iaload, 1) := dk_46 (dk_at dksL_law_19 21 rfl rfl)
theorem dL_law_571 : decode cL_law 571 = .ok (.invokevirtual 67, 3) := dk_182 0 67 (dk_at dksL_law_20 0 rfl rfl)
theorem dL_law_574 : decode cL_law 574 = .ok (.aload_n 2, 1) := dk_44 (dk_at dksL_law_20 3 rfl rfl)
theorem dL_law_575 : decode cL_law 575 = .ok (.aload_n 0, 1) := dk_42 (dk_at dksL_law_20 4 rfl rfl)
theorem dL_law_576 : decode cL_law 576 = .ok (.iload_n 3, 1) := dk_29 (dk_at dksL_law_20 5 rfl rfl)
theorem dL_law_577 : decode cL_law 577 = .ok (.iconst 1, 1) := dk_4 (dk_at dksL_law_20 6 rfl rfl)
theorem dL_law_578 : decode cL_law 578 = .ok (.iadd, 1) := dk_96 (dk_at dksL_law_20 7 rfl rfl)
theorem dL_law_579 : decode cL_law 579 = .ok (.iaload, 1) := dk_46 (dk_at dksL_law_20 8 rfl rfl)
theorem dL_law_580 : decode cL_law 580 = .ok (.aload_n 0, 1) := dk_42 (dk_at dksL_law_20 9 rfl rfl)
theorem dL_law_581 : decode cL_law 581 = .ok (.iload_n 3, 1) := dk_29 (dk_at dksL_law_20 10 rfl rfl)
theorem dL_law_582 : decode cL_law 582 = .ok (.iconst 2, 1) := dk_5 (dk_at dksL_law_20 11 rfl rfl)
theorem dL_law_583 : decode cL_law 583 = .ok (.iadd, 1) := dk_96 (dk_at dksL_law_20 12 rfl rfl)
theorem dL_law_584 : decode cL_law 584 = .ok (.iaload, 1) := dk_46 (dk_at dksL_law_20 13 rfl rfl)
theorem dL_law_585 : decode cL_law 585 = .ok (.invokevirtual 70, 3) := dk_182 0 70 (dk_at dksL_law_20 14 rfl rfl)
theorem dL_law_588 : decode cL_law 588 = .ok (.if_icmp .eq 486, 3) := dk_159 1 230 (dk_at dksL_law_20 17 rfl rfl)
theorem dL_law_591 : decode cL_law 591 = .ok (.iconst 0, 1) := dk_3 (dk_at dksL_law_20 20 rfl rfl)
theorem dL_law_592 : decode cL_law 592 = .ok (.ireturn, 1) := dk_172 (dk_at dksL_law_20 21 rfl rfl)
theorem dL_law_593 : decode cL_law 593 = .ok (.aload_n 1, 1) := dk_43 (dk_at dksL_law_20 22 rfl rfl)
theorem dL_law_594 : decode cL_law 594 = .ok (.aload_n 0, 1) := dk_42 (dk_at dksL_law_20 23 rfl rfl)
theorem dL_law_595 : decode cL_law 595 = .ok (.iload_n 3, 1) := dk_29 (dk_at dksL_law_21 0 rfl rfl)
theorem dL_law_596 : decode cL_law 596 = .ok (.iconst 1, 1) := dk_4 (dk_at dksL_law_21 1 rfl rfl)
theorem dL_law_597 : decode cL_law 597 = .ok (.iadd, 1) := dk_96 (dk_at dksL_law_21 2 rfl rfl)
theorem dL_law_598 : decode cL_law 598 = .ok (.iaload, 1) := dk_46 (dk_at dksL_law_21 3 rfl rfl)
theorem dL_law_599 : decode cL_law 599 = .ok (.aload_n 0, 1) := dk_42 (dk_at dksL_law_21 4 rfl rfl)
theorem dL_law_600 : decode cL_law 600 = .ok (.iload_n 3, 1) := dk_29 (dk_at dksL_law_21 5 rfl rfl)
theorem dL_law_601 : decode cL_law 601 = .ok (.iconst 2, 1) := dk_5 (dk_at dksL_law_21 6 rfl rfl)
theorem dL_law_602 : decode cL_law 602 = .ok (.iadd, 1) := dk_96 (dk_at dksL_law_21 7 rfl rfl)
theorem dL_law_603 : decode cL_law 603 = .ok (.iaload, 1) := dk_46 (dk_at dksL_law_21 8 rfl rfl)
theorem dL_law_604 : decode cL_law 604 = .ok (.invokevirtual 71, 3) := dk_182 0 71 (dk_at dksL_law_21 9 rfl rfl)
theorem dL_law_607 : decode cL_law 607 = .ok (.aload_n 2, 1) := dk_44 (dk_at dksL_law_21 12 rfl rfl)
theorem dL_law_608 : decode cL_law 608 = .ok (.aload_n 0, 1) := dk_42 (dk_at dksL_law_21 13 rfl rfl)
theorem dL_law_609 : decode cL_law 609 = .ok (.iload_n 3, 1) := dk_29 (dk_at dksL_law_21 14 rfl rfl)
theorem dL_law_610 : decode cL_law 610 = .ok (.iconst 1, 1) := dk_4 (dk_at dksL_law_21 15 rfl rfl)
theorem dL_law_611 : decode cL_law 611 = .ok (.iadd, 1) := dk_96 (dk_at dksL_law_21 16 rfl rfl)
theorem dL_law_612 : decode cL_law 612 = .ok (.iaload, 1) := dk_46 (dk_at dksL_law_21 17 rfl rfl)
theorem dL_law_613 : decode cL_law 613 = .ok (.aload_n 0, 1) := dk_42 (dk_at dksL_law_21 18 rfl rfl)
theorem dL_law_614 : decode cL_law 614 = .ok (.iload_n 3, 1) := dk_29 (dk_at dksL_law_21 19 rfl rfl)
theorem dL_law_615 : decode cL_law 615 = .ok (.iconst 2, 1) := dk_5 (dk_at dksL_law_21 20 rfl rfl)
theorem dL_law_616 : decode cL_law 616 = .ok (.iadd, 1) := dk_96 (dk_at dksL_law_21 21 rfl rfl)
theorem dL_law_617 : decode cL_law 617 = .ok (.iaload, 1) := dk_46 (dk_at dksL_law_21 22 rfl rfl)
theorem dL_law_618 : decode cL_law 618 = .ok (.invokevirtual 74, 3) := dk_182 0 74 (dk_at dksL_law_22 0 rfl rfl)
theorem dL_law_621 : decode cL_law 621 = .ok (.if_icmp .eq 453, 3) := dk_159 1 197 (dk_at dksL_law_22 3 rfl rfl)
theorem dL_law_624 : decode cL_law 624 = .ok (.iconst 0, 1) := dk_3 (dk_at dksL_law_22 6 rfl rfl)
theorem dL_law_625 : decode cL_law 625 = .ok (.ireturn, 1) := dk_172 (dk_at dksL_law_22 7 rfl rfl)
theorem dL_law_626 : decode cL_law 626 = .ok (.aload_n 1, 1) := dk_43 (dk_at dksL_law_22 8 rfl rfl)
theorem dL_law_627 : decode cL_law 627 = .ok (.aload_n 0, 1) := dk_42 (dk_at dksL_law_22 9 rfl rfl)
theorem dL_law_628 : decode cL_law 628 = .ok (.iload_n 3, 1) := dk_29 (dk_at dksL_law_22 10 rfl rfl)
theorem dL_law_629 : decode cL_law 629 = .ok (.iconst 1, 1) := dk_4 (dk_at dksL_law_22 11 rfl rfl)
theorem dL_law_630 : decode cL_law 630 = .ok (.iadd, 1) := dk_96 (dk_at dksL_law_22 12 rfl rfl)
theorem dL_law_631 : decode cL_law 631 = .ok (.iaload, 1) := dk_46 (dk_at dksL_law_22 13 rfl rfl)
theorem dL_law_632 : decode cL_law 632 = .ok (.aload_n 0, 1) := dk_42 (dk_at dksL_law_22 14 rfl rfl)
theorem dL_law_633 : decode cL_law 633 = .ok (.iload_n 3, 1) := dk_29 (dk_at dksL_law_22 15 rfl rfl)
theorem dL_law_634 : decode cL_law 634 = .ok (.iconst 2, 1) := dk_5 (dk_at dksL_law_22 16 rfl rfl)
theorem dL_law_635 : decode cL_law 635 = .ok (.iadd, 1) := dk_96 (dk_at dksL_law_22 17 rfl rfl)
theorem dL_law_636 : decode cL_law 636 = .ok (.iaload, 1) := dk_46 (dk_at dksL_law_22 18 rfl rfl)
theorem dL_law_637 : decode cL_law 637 = .ok (.aload_n 0, 1) := dk_42 (dk_at dksL_law_22 19 rfl rfl)
theorem dL_law_638 : decode cL_law 638 = .ok (.iload_n 3, 1) := dk_29 (dk_at dksL_law_22 20 rfl rfl)
theorem dL_law_639 : decode cL_law 639 = .ok (.iconst 3, 1) := dk_6 (dk_at dksL_law_22 21 rfl rfl)
theorem dL_law_640 : decode cL_law 640 = .ok (.iadd, 1) := dk_96 (dk_at dksL_law_22 22 rfl rfl)
theorem dL_law_641 : decode cL_law 641 = .ok (.iaload, 1) := dk_46 (dk_at dksL_law_22 23 rfl rfl)
theorem dL_law_642 : decode cL_law 642 = .ok (.invokevirtual 75, 3) := dk_182 0 75 (dk_at dksL_law_23 0 rfl rfl)
theorem dL_law_645 : decode cL_law 645 = .ok (.aload_n 2, 1) := dk_44 (dk_at dksL_law_23 3 rfl rfl)
theorem dL_law_646 : decode cL_law 646 = .ok (.aload_n 0, 1) := dk_42 (dk_at dksL_law_23 4 rfl rfl)
theorem dL_law_647 : decode cL_law 647 = .ok (.iload_n 3, 1) := dk_29 (dk_at dksL_law_23 5 rfl rfl)
theorem dL_law_648 : decode cL_law 648 = .ok (.iconst 1, 1) := dk_4 (dk_at dksL_law_23 6 rfl rfl)
theorem dL_law_649 : decode cL_law 649 = .ok (.iadd, 1) := dk_96 (dk_at dksL_law_23 7 rfl rfl)
theorem dL_law_650 : decode cL_law 650 = .ok (.iaload, 1) := dk_46 (dk_at dksL_law_23 8 rfl rfl)
theorem dL_law_651 : decode cL_law 651 = .ok (.aload_n 0, 1) := dk_42 (dk_at dksL_law_23 9 rfl rfl)
theorem dL_law_652 : decode cL_law 652 = .ok (.iload_n 3, 1) := dk_29 (dk_at dksL_law_23 10 rfl rfl)
theorem dL_law_653 : decode cL_law 653 = .ok (.iconst 2, 1) := dk_5 (dk_at dksL_law_23 11 rfl rfl)
theorem dL_law_654 : decode cL_law 654 = .ok (.iadd, 1) := dk_96 (dk_at dksL_law_23 12 rfl rfl)
theorem dL_law_655 : decode cL_law 655 = .ok (.iaload, 1) := dk_46 (dk_at dksL_law_23 13 rfl rfl)
theorem dL_law_656 : decode cL_law 656 = .ok (.aload_n 0, 1) := dk_42 (dk_at dksL_law_23 14 rfl rfl)
theorem dL_law_657 : decode cL_law 657 = .ok (.iload_n 3, 1) := dk_29 (dk_at dksL_law_23 15 rfl rfl)
theorem dL_law_658 : decode cL_law 658 = .ok (.iconst 3, 1) := dk_6 (dk_at dksL_law_23 16 rfl rfl)
theorem dL_law_659 : decode cL_law 659 = .ok (.iadd, 1) := dk_96 (dk_at dksL_law_23 17 rfl rfl)
theorem dL_law_660 : decode cL_law 660 = .ok (.iaload, 1) := dk_46 (dk_at dksL_law_23 18 rfl rfl)
theorem dL_law_661 : decode cL_law 661 = .ok (.invokevirtual 78, 3) := dk_182 0 78 (dk_at dksL_law_23 19 rfl rfl)
theorem dL_law_664 : decode cL_law 664 = .ok (.if_icmp .eq 410, 3) := dk_159 1 154 (dk_at dksL_law_24 0 rfl rfl)
theorem dL_law_667 : decode cL_law 667 = .ok (.iconst 0, 1) := dk_3 (dk_at dksL_law_24 3 rfl rfl)
theorem dL_law_668 : decode cL_law 668 = .ok (.ireturn, 1) := dk_172 (dk_at dksL_law_24 4 rfl rfl)
theorem dL_law_669 : decode cL_law 669 = .ok (.aload_n 1, 1) := dk_43 (dk_at dksL_law_24 5 rfl rfl)
theorem dL_law_670 : decode cL_law 670 = .ok (.aload_n 0, 1) := dk_42 (dk_at dksL_law_24 6 rfl rfl)
theorem dL_law_671 : decode cL_law 671 = .ok (.iload_n 3, 1) := dk_29 (dk_at dksL_law_24 7 rfl rfl)
theorem dL_law_672 : decode cL_law 672 = .ok (.iconst 1, 1) := dk_4 (dk_at dksL_law_24 8 rfl rfl)
theorem dL_law_673 : decode cL_law 673 = .ok (.iadd, 1) := dk_96 (dk_at dksL_law_24 9 rfl rfl)
theorem dL_law_674 : decode cL_law 674 = .ok (.iaload, 1) := dk_46 (dk_at dksL_law_24 10 rfl rfl)
theorem dL_law_675 : decode cL_law 675 = .ok (.aload_n 0, 1) := dk_42 (dk_at dksL_law_24 11 rfl rfl)
theorem dL_law_676 : decode cL_law 676 = .ok (.iload_n 3, 1) := dk_29 (dk_at dksL_law_24 12 rfl rfl)
theorem dL_law_677 : decode cL_law 677 = .ok (.iconst 2, 1) := dk_5 (dk_at dksL_law_24 13 rfl rfl)
theorem dL_law_678 : decode cL_law 678 = .ok (.iadd, 1) := dk_96 (dk_at dksL_law_24 14 rfl rfl)
theorem dL_law_679 : decode cL_law 679 = .ok (.iaload, 1) := dk_46 (dk_at dksL_law_24 15 rfl rfl)
theorem dL_law_680 : decode cL_law 680 = .ok (.invokevirtual 79, 3) := dk_182 0 79 (dk_at dksL_law_24 16 rfl rfl)
theorem dL_law_683 : decode cL_law 683 = .ok (.aload_n 2, 1) := dk_44 (dk_at dksL_law_24 19 rfl rfl)
theorem dL_law_684 : decode cL_law 684 = .ok (.aload_n 0, 1) := dk_42 (dk_at dksL_law_24 20 rfl rfl)
theorem dL_law_685 : decode cL_law 685 = .ok (.iload_n 3, 1) := dk_29 (dk_at dksL_law_24 21 rfl rfl)
theorem dL_law_686 : decode cL_law 686 = .ok (.iconst 1, 1) := dk_4 (dk_at dksL_law_24 22 rfl rfl)
theorem dL_law_687 : decode cL_law 687 = .ok (.iadd, 1) := dk_96 (dk_at dksL_law_24 23 rfl rfl)
theorem dL_law_688 : decode cL_law 688 = .ok (.iaload, 1) := dk_46 (dk_at dksL_law_25 0 rfl rfl)
theorem dL_law_689 : decode cL_law 689 = .ok (.aload_n 0, 1) := dk_42 (dk_at dksL_law_25 1 rfl rfl)
theorem dL_law_690 : decode cL_law 690 = .ok (.iload_n 3, 1) := dk_29 (dk_at dksL_law_25 2 rfl rfl)
theorem dL_law_691 : decode cL_law 691 = .ok (.iconst 2, 1) := dk_5 (dk_at dksL_law_25 3 rfl rfl)
theorem dL_law_692 : decode cL_law 692 = .ok (.iadd, 1) := dk_96 (dk_at dksL_law_25 4 rfl rfl)
theorem dL_law_693 : decode cL_law 693 = .ok (.iaload, 1) := dk_46 (dk_at dksL_law_25 5 rfl rfl)
theorem dL_law_694 : decode cL_law 694 = .ok (.invokevirtual 82, 3) := dk_182 0 82 (dk_at dksL_law_25 6 rfl rfl)
theorem dL_law_697 : decode cL_law 697 = .ok (.if_icmp .eq 377, 3) := dk_159 1 121 (dk_at dksL_law_25 9 rfl rfl)
theorem dL_law_700 : decode cL_law 700 = .ok (.iconst 0, 1) := dk_3 (dk_at dksL_law_25 12 rfl rfl)
theorem dL_law_701 : decode cL_law 701 = .ok (.ireturn, 1) := dk_172 (dk_at dksL_law_25 13 rfl rfl)
theorem dL_law_702 : decode cL_law 702 = .ok (.aload_n 1, 1) := dk_43 (dk_at dksL_law_25 14 rfl rfl)
theorem dL_law_703 : decode cL_law 703 = .ok (.aload_n 0, 1) := dk_42 (dk_at dksL_law_25 15 rfl rfl)
theorem dL_law_704 : decode cL_law 704 = .ok (.iload_n 3, 1) := dk_29 (dk_at dksL_law_25 16 rfl rfl)
theorem dL_law_705 : decode cL_law 705 = .ok (.iconst 1, 1) := dk_4 (dk_at dksL_law_25 17 rfl rfl)
theorem dL_law_706 : decode cL_law 706 = .ok (.iadd, 1) := dk_96 (dk_at dksL_law_25 18 rfl rfl)
theorem dL_law_707 : decode cL_law 707 = .ok (.iaload, 1) := dk_46 (dk_at dksL_law_25 19 rfl rfl)
theorem dL_law_708 : decode cL_law 708 = .ok (.aload_n 0, 1) := dk_42 (dk_at dksL_law_25 20 rfl rfl)
theorem dL_law_709 : decode cL_law 709 = .ok (.iload_n 3, 1) := dk_29 (dk_at dksL_law_25 21 rfl rfl)
theorem dL_law_710 : decode cL_law 710 = .ok (.iconst 2, 1) := dk_5 (dk_at dksL_law_25 22 rfl rfl)
theorem dL_law_711 : decode cL_law 711 = .ok (.iadd, 1) := dk_96 (dk_at dksL_law_25 23 rfl rfl)
theorem dL_law_712 : decode cL_law 712 = .ok (.iaload, 1) := dk_46 (dk_at dksL_law_26 0 rfl rfl)
theorem dL_law_713 : decode cL_law 713 = .ok (.aload_n 0, 1) := dk_42 (dk_at dksL_law_26 1 rfl rfl)
theorem dL_law_714 : decode cL_law 714 = .ok (.iload_n 3, 1) := dk_29 (dk_at dksL_law_26 2 rfl rfl)
theorem dL_law_715 : decode cL_law 715 = .ok (.iconst 3, 1) := dk_6 (dk_at dksL_law_26 3 rfl rfl)
theorem dL_law_716 : decode cL_law 716 = .ok (.iadd, 1) := dk_96 (dk_at dksL_law_26 4 rfl rfl)
theorem dL_law_717 : decode cL_law 717 = .ok (.iaload, 1) := dk_46 (dk_at dksL_law_26 5 rfl rfl)
theorem dL_law_718 : decode cL_law 718 = .ok (.invokevirtual 83, 3) := dk_182 0 83 (dk_at dksL_law_26 6 rfl rfl)
theorem dL_law_721 : decode cL_law 721 = .ok (.aload_n 2, 1) := dk_44 (dk_at dksL_law_26 9 rfl rfl)
theorem dL_law_722 : decode cL_law 722 = .ok (.aload_n 0, 1) := dk_42 (dk_at dksL_law_26 10 rfl rfl)
theorem dL_law_723 : decode cL_law 723 = .ok (.iload_n 3, 1) := dk_29 (dk_at dksL_law_26 11 rfl rfl)
theorem dL_law_724 : decode cL_law 724 = .ok (.iconst 1, 1) := dk_4 (dk_at dksL_law_26 12 rfl rfl)
theorem dL_law_725 : decode cL_law 725 = .ok (.iadd, 1) := dk_96 (dk_at dksL_law_26 13 rfl rfl)
theorem dL_law_726 : decode cL_law 726 = .ok (.iaload, 1) := dk_46 (dk_at dksL_law_26 14 rfl rfl)
theorem dL_law_727 : decode cL_law 727 = .ok (.aload_n 0, 1) := dk_42 (dk_at dksL_law_26 15 rfl rfl)
theorem dL_law_728 : decode cL_law 728 = .ok (.iload_n 3, 1) := dk_29 (dk_at dksL_law_26 16 rfl rfl)
theorem dL_law_729 : decode cL_law 729 = .ok (.iconst 2, 1) := dk_5 (dk_at dksL_law_26 17 rfl rfl)
theorem dL_law_730 : decode cL_law 730 = .ok (.iadd, 1) := dk_96 (dk_at dksL_law_26 18 rfl rfl)
theorem dL_law_731 : decode cL_law 731 = .ok (.iaload, 1) := dk_46 (dk_at dksL_law_26 19 rfl rfl)
theorem dL_law_732 : decode cL_law 732 = .ok (.aload_n 0, 1) := dk_42 (dk_at dksL_law_26 20 rfl rfl)
theorem dL_law_733 : decode cL_law 733 = .ok (.iload_n 3, 1) := dk_29 (dk_at dksL_law_26 21 rfl rfl)
theorem dL_law_734 : decode cL_law 734 = .ok (.iconst 3, 1) := dk_6 (dk_at dksL_law_26 22 rfl rfl)
theorem dL_law_735 : decode cL_law 735 = .ok (.iadd, 1) := dk_96 (dk_at dksL_law_26 23 rfl rfl)
theorem dL_law_736 : decode cL_law 736 = .ok (.iaload, 1) := dk_46 (dk_at dksL_law_27 0 rfl rfl)
theorem dL_law_737 : decode cL_law 737 = .ok (.invokevirtual 86, 3) := dk_182 0 86 (dk_at dksL_law_27 1 rfl rfl)
theorem dL_law_740 : decode cL_law 740 = .ok (.if_icmp .eq 334, 3) := dk_159 1 78 (dk_at dksL_law_27 4 rfl rfl)
theorem dL_law_743 : decode cL_law 743 = .ok (.iconst 0, 1) := dk_3 (dk_at dksL_law_27 7 rfl rfl)
theorem dL_law_744 : decode cL_law 744 = .ok (.ireturn, 1) := dk_172 (dk_at dksL_law_27 8 rfl rfl)
theorem dL_law_745 : decode cL_law 745 = .ok (.aload_n 1, 1) := dk_43 (dk_at dksL_law_27 9 rfl rfl)
theorem dL_law_746 : decode cL_law 746 = .ok (.aload_n 0, 1) := dk_42 (dk_at dksL_law_27 10 rfl rfl)
theorem dL_law_747 : decode cL_law 747 = .ok (.iload_n 3, 1) := dk_29 (dk_at dksL_law_27 11 rfl rfl)
theorem dL_law_748 : decode cL_law 748 = .ok (.iconst 1, 1) := dk_4 (dk_at dksL_law_27 12 rfl rfl)
theorem dL_law_749 : decode cL_law 749 = .ok (.iadd, 1) := dk_96 (dk_at dksL_law_27 13 rfl rfl)
theorem dL_law_750 : decode cL_law 750 = .ok (.iaload, 1) := dk_46 (dk_at dksL_law_27 14 rfl rfl)
theorem dL_law_751 : decode cL_law 751 = .ok (.aload_n 0, 1) := dk_42 (dk_at dksL_law_27 15 rfl rfl)
theorem dL_law_752 : decode cL_law 752 = .ok (.iload_n 3, 1) := dk_29 (dk_at dksL_law_27 16 rfl rfl)
theorem dL_law_753 : decode cL_law 753 = .ok (.iconst 2, 1) := dk_5 (dk_at dksL_law_27 17 rfl rfl)
theorem dL_law_754 : decode cL_law 754 = .ok (.iadd, 1) := dk_96 (dk_at dksL_law_27 18 rfl rfl)
theorem dL_law_755 : decode cL_law 755 = .ok (.iaload, 1) := dk_46 (dk_at dksL_law_27 19 rfl rfl)
theorem dL_law_756 : decode cL_law 756 = .ok (.invokevirtual 87, 3) := dk_182 0 87 (dk_at dksL_law_27 20 rfl rfl)
theorem dL_law_759 : decode cL_law 759 = .ok (.aload_n 2, 1) := dk_44 (dk_at dksL_law_27 23 rfl rfl)
theorem dL_law_760 : decode cL_law 760 = .ok (.aload_n 0, 1) := dk_42 (dk_at dksL_law_28 0 rfl rfl)
theorem dL_law_761 : decode cL_law 761 = .ok (.iload_n 3, 1) := dk_29 (dk_at dksL_law_28 1 rfl rfl)
theorem dL_law_762 : decode cL_law 762 = .ok (.iconst 1, 1) := dk_4 (dk_at dksL_law_28 2 rfl rfl)
theorem dL_law_763 : decode cL_law 763 = .ok (.iadd, 1) := dk_96 (dk_at dksL_law_28 3 rfl rfl)
theorem dL_law_764 : decode cL_law 764 = .ok (.iaload, 1) := dk_46 (dk_at dksL_law_28 4 rfl rfl)
theorem dL_law_765 : decode cL_law 765 = .ok (.aload_n 0, 1) := dk_42 (dk_at dksL_law_28 5 rfl rfl)
theorem dL_law_766 : decode cL_law 766 = .ok (.iload_n 3, 1) := dk_29 (dk_at dksL_law_28 6 rfl rfl)
theorem dL_law_767 : decode cL_law 767 = .ok (.iconst 2, 1) := dk_5 (dk_at dksL_law_28 7 rfl rfl)
theorem dL_law_768 : decode cL_law 768 = .ok (.iadd, 1) := dk_96 (dk_at dksL_law_28 8 rfl rfl)
theorem dL_law_769 : decode cL_law 769 = .ok (.iaload, 1) := dk_46 (dk_at dksL_law_28 9 rfl rfl)
theorem dL_law_770 : decode cL_law 770 = .ok (.invokevirtual 90, 3) := dk_182 0 90 (dk_at dksL_law_28 10 rfl rfl)
theorem dL_law_773 : decode cL_law 773 = .ok (.if_icmp .eq 301, 3) := dk_159 1 45 (dk_at dksL_law_28 13 rfl rfl)
theorem dL_law_776 : decode cL_law 776 = .ok (.iconst 0, 1) := dk_3 (dk_at dksL_law_28 16 rfl rfl)
theorem dL_law_777 : decode cL_law 777 = .ok (.ireturn, 1) := dk_172 (dk_at dksL_law_28 17 rfl rfl)
theorem dL_law_778 : decode cL_law 778 = .ok (.aload_n 1, 1) := dk_43 (dk_at dksL_law_28 18 rfl rfl)
theorem dL_law_779 : decode cL_law 779 = .ok (.invokevirtual 91, 3) := dk_182 0 91 (dk_at dksL_law_28 19 rfl rfl)
theorem dL_law_782 : decode cL_law 782 = .ok (.aload_n 2, 1) := dk_44 (dk_at dksL_law_28 22 rfl rfl)
theorem dL_law_783 : decode cL_law 783 = .ok (.invokevirtual 95, 3) := dk_182 0 95 (dk_at dksL_law_29 0 rfl rfl)
theorem dL_law_786 : decode cL_law 786 = .ok (.if_icmp .eq 288, 3) := dk_159 1 32 (dk_at dksL_law_29 3 rfl rfl)
theorem dL_law_789 : decode cL_law 789 = .ok (.iconst 0, 1) := dk_3 (dk_at dksL_law_29 6 rfl rfl)
theorem dL_law_790 : decode cL_law 790 = .ok (.ireturn, 1) := dk_172 (dk_at dksL_law_29 7 rfl rfl)
theorem dL_law_791 : decode cL_law 791 = .ok (.aload_n 1, 1) := dk_43 (dk_at dksL_law_29 8 rfl rfl)
theorem dL_law_792 : decode cL_law 792 = .ok (.aload_n 0, 1) := dk_42 (dk_at dksL_law_29 9 rfl rfl)
theorem dL_law_793 : decode cL_law 793 = .ok (.iload_n 3, 1) := dk_29 (dk_at dksL_law_29 10 rfl rfl)
theorem dL_law_794 : decode cL_law 794 = .ok (.iconst 1, 1) := dk_4 (dk_at dksL_law_29 11 rfl rfl)
theorem dL_law_795 : decode cL_law 795 = .ok (.iadd, 1) := dk_96 (dk_at dksL_law_29 12 rfl rfl)
theorem dL_law_796 : decode cL_law 796 = .ok (.iaload, 1) := dk_46 (dk_at dksL_law_29 13 rfl rfl)
theorem dL_law_797 : decode cL_law 797 = .ok (.aload_n 0, 1) := dk_42 (dk_at dksL_law_29 14 rfl rfl)
theorem dL_law_798 : decode cL_law 798 = .ok (.iload_n 3, 1) := dk_29 (dk_at dksL_law_29 15 rfl rfl)
theorem dL_law_799 : decode cL_law 799 = .ok (.iconst 2, 1) := dk_5 (dk_at dksL_law_29 16 rfl rfl)
theorem dL_law_800 : decode cL_law 800 = .ok (.iadd, 1) := dk_96 (dk_at dksL_law_29 17 rfl rfl)
theorem dL_law_801 : decode cL_law 801 = .ok (.iaload, 1) := dk_46 (dk_at dksL_law_29 18 rfl rfl)
theorem dL_law_802 : decode cL_law 802 = .ok (.invokevirtual 96, 3) := dk_182 0 96 (dk_at dksL_law_29 19 rfl rfl)
theorem dL_law_805 : decode cL_law 805 = .ok (.aload_n 2, 1) := dk_44 (dk_at dksL_law_29 22 rfl rfl)
theorem dL_law_806 : decode cL_law 806 = .ok (.aload_n 0, 1) := dk_42 (dk_at dksL_law_29 23 rfl rfl)
theorem dL_law_807 : decode cL_law 807 = .ok (.iload_n 3, 1) := dk_29 (dk_at dksL_law_30 0 rfl rfl)
theorem dL_law_808 : decode cL_law 808 = .ok (.iconst 1, 1) := dk_4 (dk_at dksL_law_30 1 rfl rfl)
theorem dL_law_809 : decode cL_law 809 = .ok (.iadd, 1) := dk_96 (dk_at dksL_law_30 2 rfl rfl)
theorem dL_law_810 : decode cL_law 810 = .ok (.iaload, 1) := dk_46 (dk_at dksL_law_30 3 rfl rfl)
theorem dL_law_811 : decode cL_law 811 = .ok (.aload_n 0, 1) := dk_42 (dk_at dksL_law_30 4 rfl rfl)
theorem dL_law_812 : decode cL_law 812 = .ok (.iload_n 3, 1) := dk_29 (dk_at dksL_law_30 5 rfl rfl)
theorem dL_law_813 : decode cL_law 813 = .ok (.iconst 2, 1) := dk_5 (dk_at dksL_law_30 6 rfl rfl)
theorem dL_law_814 : decode cL_law 814 = .ok (.iadd, 1) := dk_96 (dk_at dksL_law_30 7 rfl rfl)
theorem dL_law_815 : decode cL_law 815 = .ok (.iaload, 1) := dk_46 (dk_at dksL_law_30 8 rfl rfl)
theorem dL_law_816 : decode cL_law 816 = .ok (.invokevirtual 99, 3) := dk_182 0 99 (dk_at dksL_law_30 9 rfl rfl)
theorem dL_law_819 : decode cL_law 819 = .ok (.if_icmp .eq 255, 3) := dk_159 0 255 (dk_at dksL_law_30 12 rfl rfl)
theorem dL_law_822 : decode cL_law 822 = .ok (.iconst 0, 1) := dk_3 (dk_at dksL_law_30 15 rfl rfl)
theorem dL_law_823 : decode cL_law 823 = .ok (.ireturn, 1) := dk_172 (dk_at dksL_law_30 16 rfl rfl)
theorem dL_law_824 : decode cL_law 824 = .ok (.aload_n 1, 1) := dk_43 (dk_at dksL_law_30 17 rfl rfl)
theorem dL_law_825 : decode cL_law 825 = .ok (.aload_n 0, 1) := dk_42 (dk_at dksL_law_30 18 rfl rfl)
theorem dL_law_826 : decode cL_law 826 = .ok (.iload_n 3, 1) := dk_29 (dk_at dksL_law_30 19 rfl rfl)
theorem dL_law_827 : decode cL_law 827 = .ok (.iconst 1, 1) := dk_4 (dk_at dksL_law_30 20 rfl rfl)
theorem dL_law_828 : decode cL_law 828 = .ok (.iadd, 1) := dk_96 (dk_at dksL_law_30 21 rfl rfl)
theorem dL_law_829 : decode cL_law 829 = .ok (.iaload, 1) := dk_46 (dk_at dksL_law_30 22 rfl rfl)
theorem dL_law_830 : decode cL_law 830 = .ok (.aload_n 0, 1) := dk_42 (dk_at dksL_law_30 23 rfl rfl)
theorem dL_law_831 : decode cL_law 831 = .ok (.iload_n 3, 1) := dk_29 (dk_at dksL_law_31 0 rfl rfl)
theorem dL_law_832 : decode cL_law 832 = .ok (.iconst 2, 1) := dk_5 (dk_at dksL_law_31 1 rfl rfl)
theorem dL_law_833 : decode cL_law 833 = .ok (.iadd, 1) := dk_96 (dk_at dksL_law_31 2 rfl rfl)
theorem dL_law_834 : decode cL_law 834 = .ok (.iaload, 1) := dk_46 (dk_at dksL_law_31 3 rfl rfl)
theorem dL_law_835 : decode cL_law 835 = .ok (.invokevirtual 100, 3) := dk_182 0 100 (dk_at dksL_law_31 4 rfl rfl)
theorem dL_law_838 : decode cL_law 838 = .ok (.aload_n 2, 1) := dk_44 (dk_at dksL_law_31 7 rfl rfl)
theorem dL_law_839 : decode cL_law 839 = .ok (.aload_n 0, 1) := dk_42 (dk_at dksL_law_31 8 rfl rfl)
theorem dL_law_840 : decode cL_law 840 = .ok (.iload_n 3, 1) := dk_29 (dk_at dksL_law_31 9 rfl rfl)
theorem dL_law_841 : decode cL_law 841 = .ok (.iconst 1, 1) := dk_4 (dk_at dksL_law_31 10 rfl rfl)
theorem dL_law_842 : decode cL_law 842 = .ok (.iadd, 1) := dk_96 (dk_at dksL_law_31 11 rfl rfl)
theorem dL_law_843 : decode cL_law 843 = .ok (.iaload, 1) := dk_46 (dk_at dksL_law_31 12 rfl rfl)
theorem dL_law_844 : decode cL_law 844 = .ok (.aload_n 0, 1) := dk_42 (dk_at dksL_law_31 13 rfl rfl)
theorem dL_law_845 : decode cL_law 845 = .ok (.iload_n 3, 1) := dk_29 (dk_at dksL_law_31 14 rfl rfl)
theorem dL_law_846 : decode cL_law 846 = .ok (.iconst 2, 1) := dk_5 (dk_at dksL_law_31 15 rfl rfl)
theorem dL_law_847 : decode cL_law 847 = .ok (.iadd, 1) := dk_96 (dk_at dksL_law_31 16 rfl rfl)
theorem dL_law_848 : decode cL_law 848 = .ok (.iaload, 1) := dk_46 (dk_at dksL_law_31 17 rfl rfl)
theorem dL_law_849 : decode cL_law 849 = .ok (.invokevirtual 103, 3) := dk_182 0 103 (dk_at dksL_law_31 18 rfl rfl)
theorem dL_law_852 : decode cL_law 852 = .ok (.if_icmp .eq 222, 3) := dk_159 0 222 (dk_at dksL_law_31 21 rfl rfl)
theorem dL_law_855 : decode cL_law 855 = .ok (.iconst 0, 1) := dk_3 (dk_at dksL_law_32 0 rfl rfl)
theorem dL_law_856 : decode cL_law 856 = .ok (.ireturn, 1) := dk_172 (dk_at dksL_law_32 1 rfl rfl)
theorem dL_law_857 : decode cL_law 857 = .ok (.aload_n 1, 1) := dk_43 (dk_at dksL_law_32 2 rfl rfl)
theorem dL_law_858 : decode cL_law 858 = .ok (.aload_n 0, 1) := dk_42 (dk_at dksL_law_32 3 rfl rfl)
theorem dL_law_859 : decode cL_law 859 = .ok (.iload_n 3, 1) := dk_29 (dk_at dksL_law_32 4 rfl rfl)
theorem dL_law_860 : decode cL_law 860 = .ok (.iconst 1, 1) := dk_4 (dk_at dksL_law_32 5 rfl rfl)
theorem dL_law_861 : decode cL_law 861 = .ok (.iadd, 1) := dk_96 (dk_at dksL_law_32 6 rfl rfl)
theorem dL_law_862 : decode cL_law 862 = .ok (.iaload, 1) := dk_46 (dk_at dksL_law_32 7 rfl rfl)
theorem dL_law_863 : decode cL_law 863 = .ok (.invokevirtual 104, 3) := dk_182 0 104 (dk_at dksL_law_32 8 rfl rfl)
theorem dL_law_866 : decode cL_law 866 = .ok (.aload_n 2, 1) := dk_44 (dk_at dksL_law_32 11 rfl rfl)
theorem dL_law_867 : decode cL_law 867 = .ok (.aload_n 0, 1) := dk_42 (dk_at dksL_law_32 12 rfl rfl)
theorem dL_law_868 : decode cL_law 868 = .ok (.iload_n 3, 1) := dk_29 (dk_at dksL_law_32 13 rfl rfl)
theorem dL_law_869 : decode cL_law 869 = .ok (.iconst 1, 1) := dk_4 (dk_at dksL_law_32 14 rfl rfl)
theorem dL_law_870 : decode cL_law 870 = .ok (.iadd, 1) := dk_96 (dk_at dksL_law_32 15 rfl rfl)
theorem dL_law_871 : decode cL_law 871 = .ok (.iaload, 1) := dk_46 (dk_at dksL_law_32 16 rfl rfl)
theorem dL_law_872 : decode cL_law 872 = .ok (.invokevirtual 107, 3) := dk_182 0 107 (dk_at dksL_law_32 17 rfl rfl)
theorem dL_law_875 : decode cL_law 875 = .ok (.if_icmp .eq 199, 3) := dk_159 0 199 (dk_at dksL_law_32 20 rfl rfl)
theorem dL_law_878 : decode cL_law 878 = .ok (.iconst 0, 1) := dk_3 (dk_at dksL_law_32 23 rfl rfl)
theorem dL_law_879 : decode cL_law 879 = .ok (.ireturn, 1) := dk_172 (dk_at dksL_law_33 0 rfl rfl)
theorem dL_law_880 : decode cL_law 880 = .ok (.aload_n 1, 1) := dk_43 (dk_at dksL_law_33 1 rfl rfl)
theorem dL_law_881 : decode cL_law 881 = .ok (.aload_n 0, 1) := dk_42 (dk_at dksL_law_33 2 rfl rfl)
theorem dL_law_882 : decode cL_law 882 = .ok (.iload_n 3, 1) := dk_29 (dk_at dksL_law_33 3 rfl rfl)
theorem dL_law_883 : decode cL_law 883 = .ok (.iconst 1, 1) := dk_4 (dk_at dksL_law_33 4 rfl rfl)
theorem dL_law_884 : decode cL_law 884 = .ok (.iadd, 1) := dk_96 (dk_at dksL_law_33 5 rfl rfl)
theorem dL_law_885 : decode cL_law 885 = .ok (.iaload, 1) := dk_46 (dk_at dksL_law_33 6 rfl rfl)
theorem dL_law_886 : decode cL_law 886 = .ok (.aload_n 0, 1) := dk_42 (dk_at dksL_law_33 7 rfl rfl)
theorem dL_law_887 : decode cL_law 887 = .ok (.iload_n 3, 1) := dk_29 (dk_at dksL_law_33 8 rfl rfl)
theorem dL_law_888 : decode cL_law 888 = .ok (.iconst 2, 1) := dk_5 (dk_at dksL_law_33 9 rfl rfl)
theorem dL_law_889 : decode cL_law 889 = .ok (.iadd, 1) := dk_96 (dk_at dksL_law_33 10 rfl rfl)
theorem dL_law_890 : decode cL_law 890 = .ok (.iaload, 1) := dk_46 (dk_at dksL_law_33 11 rfl rfl)
theorem dL_law_891 : decode cL_law 891 = .ok (.invokevirtual 108, 3) := dk_182 0 108 (dk_at dksL_law_33 12 rfl rfl)
theorem dL_law_894 : decode cL_law 894 = .ok (.aload_n 2, 1) := dk_44 (dk_at dksL_law_33 15 rfl rfl)
theorem dL_law_895 : decode cL_law 895 = .ok (.aload_n 0, 1) := dk_42 (dk_at dksL_law_33 16 rfl rfl)
theorem dL_law_896 : decode cL_law 896 = .ok (.iload_n 3, 1) := dk_29 (dk_at dksL_law_33 17 rfl rfl)
theorem dL_law_897 : decode cL_law 897 = .ok (.iconst 1, 1) := dk_4 (dk_at dksL_law_33 18 rfl rfl)
theorem dL_law_898 : decode cL_law 898 = .ok (.iadd, 1) := dk_96 (dk_at dksL_law_33 19 rfl rfl)
theorem dL_law_899 : decode cL_law 899 = .ok (.iaload, 1) := dk_46 (dk_at dksL_law_33 20 rfl rfl)
theorem dL_law_900 : decode cL_law 900 = .ok (.aload_n 0, 1) := dk_42 (dk_at dksL_law_33 21 rfl rfl)
theorem dL_law_901 : decode cL_law 901 = .ok (.iload_n 3, 1) := dk_29 (dk_at dksL_law_33 22 rfl rfl)
theorem dL_law_902 : decode cL_law 902 = .ok (.iconst 2, 1) := dk_5 (dk_at dksL_law_33 23 rfl rfl)
theorem dL_law_903 : decode cL_law 903 = .ok (.iadd, 1) := dk_96 (dk_at dksL_law_34 0 rfl rfl)
theorem dL_law_904 : decode cL_law 904 = .ok (.iaload, 1) := dk_46 (dk_at dksL_law_34 1 rfl rfl)
theorem dL_law_905 : decode cL_law 905 = .ok (.invokevirtual 111, 3) := dk_182 0 111 (dk_at dksL_law_34 2 rfl rfl)
theorem dL_law_908 : decode cL_law 908 = .ok (.if_icmp .eq 166, 3) := dk_159 0 166 (dk_at dksL_law_34 5 rfl rfl)
theorem dL_law_911 : decode cL_law 911 = .ok (.iconst 0, 1) := dk_3 (dk_at dksL_law_34 8 rfl rfl)
theorem dL_law_912 : decode cL_law 912 = .ok (.ireturn, 1) := dk_172 (dk_at dksL_law_34 9 rfl rfl)
theorem dL_law_913 : decode cL_law 913 = .ok (.aload_n 1, 1) := dk_43 (dk_at dksL_law_34 10 rfl rfl)
theorem dL_law_914 : decode cL_law 914 = .ok (.aload_n 0, 1) := dk_42 (dk_at dksL_law_34 11 rfl rfl)
theorem dL_law_915 : decode cL_law 915 = .ok (.iload_n 3, 1) := dk_29 (dk_at dksL_law_34 12 rfl rfl)
theorem dL_law_916 : decode cL_law 916 = .ok (.iconst 1, 1) := dk_4 (dk_at dksL_law_34 13 rfl rfl)
theorem dL_law_917 : decode cL_law 917 = .ok (.iadd, 1) := dk_96 (dk_at dksL_law_34 14 rfl rfl)
theorem dL_law_918 : decode cL_law 918 = .ok (.iaload, 1) := dk_46 (dk_at dksL_law_34 15 rfl rfl)
theorem dL_law_919 : decode cL_law 919 = .ok (.aload_n 0, 1) := dk_42 (dk_at dksL_law_34 16 rfl rfl)
theorem dL_law_920 : decode cL_law 920 = .ok (.iload_n 3, 1) := dk_29 (dk_at dksL_law_34 17 rfl rfl)
theorem dL_law_921 : decode cL_law 921 = .ok (.iconst 2, 1) := dk_5 (dk_at dksL_law_34 18 rfl rfl)
theorem dL_law_922 : decode cL_law 922 = .ok (.iadd, 1) := dk_96 (dk_at dksL_law_34 19 rfl rfl)
theorem dL_law_923 : decode cL_law 923 = .ok (.iaload, 1) := dk_46 (dk_at dksL_law_34 20 rfl rfl)
theorem dL_law_924 : decode cL_law 924 = .ok (.invokevirtual 112, 3) := dk_182 0 112 (dk_at dksL_law_34 21 rfl rfl)
theorem dL_law_927 : decode cL_law 927 = .ok (.aload_n 2, 1) := dk_44 (dk_at dksL_law_35 0 rfl rfl)
theorem dL_law_928 : decode cL_law 928 = .ok (.aload_n 0, 1) := dk_42 (dk_at dksL_law_35 1 rfl rfl)
theorem dL_law_929 : decode cL_law 929 = .ok (.iload_n 3, 1) := dk_29 (dk_at dksL_law_35 2 rfl rfl)
theorem dL_law_930 : decode cL_law 930 = .ok (.iconst 1, 1) := dk_4 (dk_at dksL_law_35 3 rfl rfl)
theorem dL_law_931 : decode cL_law 931 = .ok (.iadd, 1) := dk_96 (dk_at dksL_law_35 4 rfl rfl)
theorem dL_law_932 : decode cL_law 932 = .ok (.iaload, 1) := dk_46 (dk_at dksL_law_35 5 rfl rfl)
theorem dL_law_933 : decode cL_law 933 = .ok (.aload_n 0, 1) := dk_42 (dk_at dksL_law_35 6 rfl rfl)
theorem dL_law_934 : decode cL_law 934 = .ok (.iload_n 3, 1) := dk_29 (dk_at dksL_law_35 7 rfl rfl)
theorem dL_law_935 : decode cL_law 935 = .ok (.iconst 2, 1) := dk_5 (dk_at dksL_law_35 8 rfl rfl)
theorem dL_law_936 : decode cL_law 936 = .ok (.iadd, 1) := dk_96 (dk_at dksL_law_35 9 rfl rfl)
theorem dL_law_937 : decode cL_law 937 = .ok (.iaload, 1) := dk_46 (dk_at dksL_law_35 10 rfl rfl)
theorem dL_law_938 : decode cL_law 938 = .ok (.invokevirtual 115, 3) := dk_182 0 115 (dk_at dksL_law_35 11 rfl rfl)
theorem dL_law_941 : decode cL_law 941 = .ok (.if_icmp .eq 133, 3) := dk_159 0 133 (dk_at dksL_law_35 14 rfl rfl)
theorem dL_law_944 : decode cL_law 944 = .ok (.iconst 0, 1) := dk_3 (dk_at dksL_law_35 17 rfl rfl)
theorem dL_law_945 : decode cL_law 945 = .ok (.ireturn, 1) := dk_172 (dk_at dksL_law_35 18 rfl rfl)
theorem dL_law_946 : decode cL_law 946 = .ok (.aload_n 1, 1) := dk_43 (dk_at dksL_law_35 19 rfl rfl)
theorem dL_law_947 : decode cL_law 947 = .ok (.aload_n 0, 1) := dk_42 (dk_at dksL_law_35 20 rfl rfl)
theorem dL_law_948 : decode cL_law 948 = .ok (.iload_n 3, 1) := dk_29 (dk_at dksL_law_35 21 rfl rfl)
theorem dL_law_949 : decode cL_law 949 = .ok (.iconst 1, 1) := dk_4 (dk_at dksL_law_35 22 rfl rfl)
theorem dL_law_950 : decode cL_law 950 = .ok (.iadd, 1) := dk_96 (dk_at dksL_law_35 23 rfl rfl)
theorem dL_law_951 : decode cL_law 951 = .ok (.iaload, 1) := dk_46 (dk_at dksL_law_36 0 rfl rfl)
theorem dL_law_952 : decode cL_law 952 = .ok (.aload_n 0, 1) := dk_42 (dk_at dksL_law_36 1 rfl rfl)
theorem dL_law_953 : decode cL_law 953 = .ok (.iload_n 3, 1) := dk_29 (dk_at dksL_law_36 2 rfl rfl)
theorem dL_law_954 : decode cL_law 954 = .ok (.iconst 2, 1) := dk_5 (dk_at dksL_law_36 3 rfl rfl)
theorem dL_law_955 : decode cL_law 955 = .ok (.iadd, 1) := dk_96 (dk_at dksL_law_36 4 rfl rfl)
theorem dL_law_956 : decode cL_law 956 = .ok (.iaload, 1) := dk_46 (dk_at dksL_law_36 5 rfl rfl)
theorem dL_law_957 : decode cL_law 957 = .ok (.invokevirtual 116, 3) := dk_182 0 116 (dk_at dksL_law_36 6 rfl rfl)
theorem dL_law_960 : decode cL_law 960 = .ok (.aload_n 2, 1) := dk_44 (dk_at dksL_law_36 9 rfl rfl)
theorem dL_law_961 : decode cL_law 961 = .ok (.aload_n 0, 1) := dk_42 (dk_at dksL_law_36 10 rfl rfl)
theorem dL_law_962 : decode cL_law 962 = .ok (.iload_n 3, 1) := dk_29 (dk_at dksL_law_36 11 rfl rfl)
theorem dL_law_963 : decode cL_law 963 = .ok (.iconst 1, 1) := dk_4 (dk_at dksL_law_36 12 rfl rfl)
theorem dL_law_964 : decode cL_law 964 = .ok (.iadd, 1) := dk_96 (dk_at dksL_law_36 13 rfl rfl)
theorem dL_law_965 : decode cL_law 965 = .ok (.iaload, 1) := dk_46 (dk_at dksL_law_36 14 rfl rfl)
theorem dL_law_966 : decode cL_law 966 = .ok (.aload_n 0, 1) := dk_42 (dk_at dksL_law_36 15 rfl rfl)
theorem dL_law_967 : decode cL_law 967 = .ok (.iload_n 3, 1) := dk_29 (dk_at dksL_law_36 16 rfl rfl)
theorem dL_law_968 : decode cL_law 968 = .ok (.iconst 2, 1) := dk_5 (dk_at dksL_law_36 17 rfl rfl)
theorem dL_law_969 : decode cL_law 969 = .ok (.iadd, 1) := dk_96 (dk_at dksL_law_36 18 rfl rfl)
theorem dL_law_970 : decode cL_law 970 = .ok (.iaload, 1) := dk_46 (dk_at dksL_law_36 19 rfl rfl)
theorem dL_law_971 : decode cL_law 971 = .ok (.invokevirtual 119, 3) := dk_182 0 119 (dk_at dksL_law_36 20 rfl rfl)
theorem dL_law_974 : decode cL_law 974 = .ok (.if_icmp .eq 100, 3) := dk_159 0 100 (dk_at dksL_law_37 0 rfl rfl)
theorem dL_law_977 : decode cL_law 977 = .ok (.iconst 0, 1) := dk_3 (dk_at dksL_law_37 3 rfl rfl)
theorem dL_law_978 : decode cL_law 978 = .ok (.ireturn, 1) := dk_172 (dk_at dksL_law_37 4 rfl rfl)
theorem dL_law_979 : decode cL_law 979 = .ok (.aload_n 1, 1) := dk_43 (dk_at dksL_law_37 5 rfl rfl)
theorem dL_law_980 : decode cL_law 980 = .ok (.aload_n 0, 1) := dk_42 (dk_at dksL_law_37 6 rfl rfl)
theorem dL_law_981 : decode cL_law 981 = .ok (.iload_n 3, 1) := dk_29 (dk_at dksL_law_37 7 rfl rfl)
theorem dL_law_982 : decode cL_law 982 = .ok (.iconst 1, 1) := dk_4 (dk_at dksL_law_37 8 rfl rfl)
theorem dL_law_983 : decode cL_law 983 = .ok (.iadd, 1) := dk_96 (dk_at dksL_law_37 9 rfl rfl)
theorem dL_law_984 : decode cL_law 984 = .ok (.iaload, 1) := dk_46 (dk_at dksL_law_37 10 rfl rfl)
theorem dL_law_985 : decode cL_law 985 = .ok (.invokevirtual 120, 3) := dk_182 0 120 (dk_at dksL_law_37 11 rfl rfl)
theorem dL_law_988 : decode cL_law 988 = .ok (.aload_n 2, 1) := dk_44 (dk_at dksL_law_37 14 rfl rfl)
theorem dL_law_989 : decode cL_law 989 = .ok (.aload_n 0, 1) := dk_42 (dk_at dksL_law_37 15 rfl rfl)
theorem dL_law_990 : decode cL_law 990 = .ok (.iload_n 3, 1) := dk_29 (dk_at dksL_law_37 16 rfl rfl)
theorem dL_law_991 : decode cL_law 991 = .ok (.iconst 1, 1) := dk_4 (dk_at dksL_law_37 17 rfl rfl)
theorem dL_law_992 : decode cL_law 992 = .ok (.iadd, 1) := dk_96 (dk_at dksL_law_37 18 rfl rfl)
theorem dL_law_993 : decode cL_law 993 = .ok (.iaload, 1) := dk_46 (dk_at dksL_law_37 19 rfl rfl)
theorem dL_law_994 : decode cL_law 994 = .ok (.invokevirtual 123, 3) := dk_182 0 123 (dk_at dksL_law_37 20 rfl rfl)
theorem dL_law_997 : decode cL_law 997 = .ok (.if_icmp .eq 77, 3) := dk_159 0 77 (dk_at dksL_law_38 0 rfl rfl)
theorem dL_law_1000 : decode cL_law 1000 = .ok (.iconst 0, 1) := dk_3 (dk_at dksL_law_38 3 rfl rfl)
theorem dL_law_1001 : decode cL_law 1001 = .ok (.ireturn, 1) := dk_172 (dk_at dksL_law_38 4 rfl rfl)
theorem dL_law_1002 : decode cL_law 1002 = .ok (.aload_n 1, 1) := dk_43 (dk_at dksL_law_38 5 rfl rfl)
theorem dL_law_1003 : decode cL_law 1003 = .ok (.invokevirtual 124, 3) := dk_182 0 124 (dk_at dksL_law_38 6 rfl rfl)
theorem dL_law_1006 : decode cL_law 1006 = .ok (.aload_n 2, 1) := dk_44 (dk_at dksL_law_38 9 rfl rfl)
theorem dL_law_1007 : decode cL_law 1007 = .ok (.invokevirtual 127, 3) := dk_182 0 127 (dk_at dksL_law_38 10 rfl rfl)
theorem dL_law_1010 : decode cL_law 1010 = .ok (.if_icmp .eq 64, 3) := dk_159 0 64 (dk_at dksL_law_38 13 rfl rfl)
theorem dL_law_1013 : decode cL_law 1013 = .ok (.iconst 0, 1) := dk_3 (dk_at dksL_law_38 16 rfl rfl)
theorem dL_law_1014 : decode cL_law 1014 = .ok (.ireturn, 1) := dk_172 (dk_at dksL_law_38 17 rfl rfl)
theorem dL_law_1015 : decode cL_law 1015 = .ok (.aload_n 1, 1) := dk_43 (dk_at dksL_law_38 18 rfl rfl)
theorem dL_law_1016 : decode cL_law 1016 = .ok (.invokevirtual 128, 3) := dk_182 0 128 (dk_at dksL_law_38 19 rfl rfl)
theorem dL_law_1019 : decode cL_law 1019 = .ok (.aload_n 2, 1) := dk_44 (dk_at dksL_law_38 22 rfl rfl)
theorem dL_law_1020 : decode cL_law 1020 = .ok (.invokevirtual 132, 3) := dk_182 0 132 (dk_at dksL_law_39 0 rfl rfl)
theorem dL_law_1023 : decode cL_law 1023 = .ok (.if_icmp .eq 51, 3) := dk_159 0 51 (dk_at dksL_law_39 3 rfl rfl)
theorem dL_law_1026 : decode cL_law 1026 = .ok (.iconst 0, 1) := dk_3 (dk_at dksL_law_39 6 rfl rfl)
theorem dL_law_1027 : decode cL_law 1027 = .ok (.ireturn, 1) := dk_172 (dk_at dksL_law_39 7 rfl rfl)
theorem dL_law_1028 : decode cL_law 1028 = .ok (.aload_n 1, 1) := dk_43 (dk_at dksL_law_39 8 rfl rfl)
theorem dL_law_1029 : decode cL_law 1029 = .ok (.aload_n 0, 1) := dk_42 (dk_at dksL_law_39 9 rfl rfl)
theorem dL_law_1030 : decode cL_law 1030 = .ok (.iload_n 3, 1) := dk_29 (dk_at dksL_law_39 10 rfl rfl)
theorem dL_law_1031 : decode cL_law 1031 = .ok (.iconst 1, 1) := dk_4 (dk_at dksL_law_39 11 rfl rfl)
theorem dL_law_1032 : decode cL_law 1032 = .ok (.iadd, 1) := dk_96 (dk_at dksL_law_39 12 rfl rfl)
theorem dL_law_1033 : decode cL_law 1033 = .ok (.iaload, 1) := dk_46 (dk_at dksL_law_39 13 rfl rfl)
theorem dL_law_1034 : decode cL_law 1034 = .ok (.invokevirtual 133, 3) := dk_182 0 133 (dk_at dksL_law_39 14 rfl rfl)
theorem dL_law_1037 : decode cL_law 1037 = .ok (.aload_n 2, 1) := dk_44 (dk_at dksL_law_39 17 rfl rfl)
theorem dL_law_1038 : decode cL_law 1038 = .ok (.aload_n 0, 1) := dk_42 (dk_at dksL_law_39 18 rfl rfl)
theorem dL_law_1039 : decode cL_law 1039 = .ok (.iload_n 3, 1) := dk_29 (dk_at dksL_law_39 19 rfl rfl)
theorem dL_law_1040 : decode cL_law 1040 = .ok (.iconst 1, 1) := dk_4 (dk_at dksL_law_39 20 rfl rfl)
theorem dL_law_1041 : decode cL_law 1041 = .ok (.iadd, 1) := dk_96 (dk_at dksL_law_39 21 rfl rfl)
theorem dL_law_1042 : decode cL_law 1042 = .ok (.iaload, 1) := dk_46 (dk_at dksL_law_39 22 rfl rfl)
theorem dL_law_1043 : decode cL_law 1043 = .ok (.invokevirtual 136, 3) := dk_182 0 136 (dk_at dksL_law_40 0 rfl rfl)
theorem dL_law_1046 : decode cL_law 1046 = .ok (.if_icmp .eq 28, 3) := dk_159 0 28 (dk_at dksL_law_40 3 rfl rfl)
theorem dL_law_1049 : decode cL_law 1049 = .ok (.iconst 0, 1) := dk_3 (dk_at dksL_law_40 6 rfl rfl)
theorem dL_law_1050 : decode cL_law 1050 = .ok (.ireturn, 1) := dk_172 (dk_at dksL_law_40 7 rfl rfl)
theorem dL_law_1051 : decode cL_law 1051 = .ok (.aload_n 1, 1) := dk_43 (dk_at dksL_law_40 8 rfl rfl)
theorem dL_law_1052 : decode cL_law 1052 = .ok (.aload_n 0, 1) := dk_42 (dk_at dksL_law_40 9 rfl rfl)
theorem dL_law_1053 : decode cL_law 1053 = .ok (.iload_n 3, 1) := dk_29 (dk_at dksL_law_40 10 rfl rfl)
theorem dL_law_1054 : decode cL_law 1054 = .ok (.iconst 1, 1) := dk_4 (dk_at dksL_law_40 11 rfl rfl)
theorem dL_law_1055 : decode cL_law 1055 = .ok (.iadd, 1) := dk_96 (dk_at dksL_law_40 12 rfl rfl)
theorem dL_law_1056 : decode cL_law 1056 = .ok (.iaload, 1) := dk_46 (dk_at dksL_law_40 13 rfl rfl)
theorem dL_law_1057 : decode cL_law 1057 = .ok (.invokevirtual 137, 3) := dk_182 0 137 (dk_at dksL_law_40 14 rfl rfl)
theorem dL_law_1060 : decode cL_law 1060 = .ok (.aload_n 2, 1) := dk_44 (dk_at dksL_law_40 17 rfl rfl)
theorem dL_law_1061 : decode cL_law 1061 = .ok (.aload_n 0, 1) := dk_42 (dk_at dksL_law_40 18 rfl rfl)
theorem dL_law_1062 : decode cL_law 1062 = .ok (.iload_n 3, 1) := dk_29 (dk_at dksL_law_40 19 rfl rfl)
theorem dL_law_1063 : decode cL_law 1063 = .ok (.iconst 1, 1) := dk_4 (dk_at dksL_law_40 20 rfl rfl)
theorem dL_law_1064 : decode cL_law 1064 = .ok (.iadd, 1) := dk_96 (dk_at dksL_law_40 21 rfl rfl)
theorem dL_law_1065 : decode cL_law 1065 = .ok (.iaload, 1) := dk_46 (dk_at dksL_law_40 22 rfl rfl)
theorem dL_law_1066 : decode cL_law 1066 = .ok (.invokevirtual 140, 3) := dk_182 0 140 (dk_at dksL_law_41 0 rfl rfl)
theorem dL_law_1069 : decode cL_law 1069 = .ok (.if_icmp .eq 5, 3) := dk_159 0 5 (dk_at dksL_law_41 3 rfl rfl)
theorem dL_law_1072 : decode cL_law 1072 = .ok (.iconst 0, 1) := dk_3 (dk_at dksL_law_41 6 rfl rfl)
theorem dL_law_1073 : decode cL_law 1073 = .ok (.ireturn, 1) := dk_172 (dk_at dksL_law_41 7 rfl rfl)
theorem dL_law_1074 : decode cL_law 1074 = .ok (.iinc 3 6, 3) := dk_132 3 6 (dk_at dksL_law_41 8 rfl rfl)
theorem dL_law_1077 : decode cL_law 1077 = .ok (.goto (-1059), 3) := dk_167 251 221 (dk_at dksL_law_41 11 rfl rfl)
theorem dL_law_1080 : decode cL_law 1080 = .ok (.iconst 1, 1) := dk_4 (dk_at dksL_law_41 14 rfl rfl)
theorem dL_law_1081 : decode cL_law 1081 = .ok (.ireturn, 1) := dk_172 (dk_at dksL_law_41 15 rfl rfl)
