/-! TermLog$Node -/
set_option maxRecDepth 100000
def RX4 : String := "TermLog$Node"
def TX4 : u_T := fun k => match k with
  | 0 => ("TermLog$Node", "terms", "[I", true)
  | 1 => ("TermLog$Node", "kinds", "[I", true)
  | 2 => ("TermLog$Node", "ones", "[I", true)
  | 3 => ("TermLog$Node", "others", "[I", true)
  | 4 => ("TermLog$Node", "keys", "[I", true)
  | 5 => ("TermLog$Node", "baseKeys", "[I", true)
  | 6 => ("TermLog$Node", "next", "[I", true)
  | 7 => ("TermLog$Node", "match", "[I", true)
  | 8 => ("TermLog$Node", "heard", "[I", true)
  | 9 => ("TermLog$Node", "term", "I", false)
  | 10 => ("TermLog$Node", "vote", "I", false)
  | 11 => ("TermLog$Node", "base", "I", false)
  | 12 => ("TermLog$Node", "baseTerm", "I", false)
  | 13 => ("TermLog$Node", "baseOld", "I", false)
  | 14 => ("TermLog$Node", "baseNew", "I", false)
  | 15 => ("TermLog$Node", "many", "I", false)
  | 16 => ("TermLog$Node", "role", "I", false)
  | 17 => ("TermLog$Node", "commit", "I", false)
  | 18 => ("TermLog$Node", "timer", "I", false)
  | 19 => ("TermLog$Node", "known", "I", false)
  | 20 => ("TermLog$Node", "votes", "I", false)
  | 21 => ("TermLog$Node", "round", "I", false)
  | 22 => ("TermLog$Node", "heart", "I", false)
  | _ => ("TermLog$Node", "isUp", "Z", false)
def tyX4 : Nat → FieldType := fun k => match k with
  | 0 => .array .int
  | 1 => .array .int
  | 2 => .array .int
  | 3 => .array .int
  | 4 => .array .int
  | 5 => .array .int
  | 6 => .array .int
  | 7 => .array .int
  | 8 => .array .int
  | 9 => .int
  | 10 => .int
  | 11 => .int
  | 12 => .int
  | 13 => .int
  | 14 => .int
  | 15 => .int
  | 16 => .int
  | 17 => .int
  | 18 => .int
  | 19 => .int
  | 20 => .int
  | 21 => .int
  | 22 => .int
  | _ => .boolean
abbrev wsX40 : List Cond := u_ws RX4 TX4 24
set_option maxRecDepth 100000 in
theorem nmX4 : ∀ a, a < 24 → ∀ b, b < 24 → a ≠ b → (TX4 a).2.1 ≠ (TX4 b).2.1 := by decide +kernel
set_option maxRecDepth 100000 in
theorem tyX4_ok : ∀ k, k < 24 → parseFieldDescriptor (TX4 k).2.2.1 = some (tyX4 k) := by decide +kernel
abbrev cX4_init : ByteArray := prog_8_method_1_code
def yX4_init : MethodName := ⟨RX4, "<init>", "()V"⟩
def dkwX4_init_3 : List UInt8 := [188, 10, 181, 0, 36, 177]
abbrev dktX4_init_3 : List UInt8 := dkwX4_init_3 ++ []
def dkwX4_init_2 : List UInt8 := [188, 10, 181, 0, 27, 42, 16, 7, 188, 10, 181, 0, 30, 42, 16, 7, 188, 10, 181, 0, 33, 42, 16, 7]
abbrev dktX4_init_2 : List UInt8 := dkwX4_init_2 ++ dktX4_init_3
def dkwX4_init_1 : List UInt8 := [188, 10, 181, 0, 18, 42, 16, 48, 188, 10, 181, 0, 21, 42, 16, 8, 188, 10, 181, 0, 24, 42, 16, 8]
abbrev dktX4_init_1 : List UInt8 := dkwX4_init_1 ++ dktX4_init_2
def dkwX4_init_0 : List UInt8 := [42, 183, 0, 3, 42, 16, 48, 188, 10, 181, 0, 9, 42, 16, 48, 188, 10, 181, 0, 15, 42, 16, 48]
abbrev dktX4_init_0 : List UInt8 := dkwX4_init_0 ++ dktX4_init_1
theorem dksX4_init_0 : cX4_init.data.toList.drop 0 = dktX4_init_0 := by decide +kernel
theorem dksX4_init_1 : cX4_init.data.toList.drop 23 = dktX4_init_1 := dk_seg dksX4_init_0 23 rfl rfl
theorem dksX4_init_2 : cX4_init.data.toList.drop 47 = dktX4_init_2 := dk_seg dksX4_init_1 24 rfl rfl
theorem dksX4_init_3 : cX4_init.data.toList.drop 71 = dktX4_init_3 := dk_seg dksX4_init_2 24 rfl rfl
theorem dX4_init_0 : decode cX4_init 0 = .ok (.aload_n 0, 1) := dk_42 (dk_at dksX4_init_0 0 rfl rfl)
theorem dX4_init_1 : decode cX4_init 1 = .ok (.invokespecial 3, 3) := dk_183 0 3 (dk_at dksX4_init_0 1 rfl rfl)
theorem dX4_init_4 : decode cX4_init 4 = .ok (.aload_n 0, 1) := dk_42 (dk_at dksX4_init_0 4 rfl rfl)
theorem dX4_init_5 : decode cX4_init 5 = .ok (.bipush 48, 2) := dk_16 48 (dk_at dksX4_init_0 5 rfl rfl)
theorem dX4_init_7 : decode cX4_init 7 = .ok (.newarray .int, 2) := dk_188_10 (dk_at dksX4_init_0 7 rfl rfl)
theorem dX4_init_9 : decode cX4_init 9 = .ok (.putfield 9, 3) := dk_181 0 9 (dk_at dksX4_init_0 9 rfl rfl)
theorem dX4_init_12 : decode cX4_init 12 = .ok (.aload_n 0, 1) := dk_42 (dk_at dksX4_init_0 12 rfl rfl)
theorem dX4_init_13 : decode cX4_init 13 = .ok (.bipush 48, 2) := dk_16 48 (dk_at dksX4_init_0 13 rfl rfl)
theorem dX4_init_15 : decode cX4_init 15 = .ok (.newarray .int, 2) := dk_188_10 (dk_at dksX4_init_0 15 rfl rfl)
theorem dX4_init_17 : decode cX4_init 17 = .ok (.putfield 15, 3) := dk_181 0 15 (dk_at dksX4_init_0 17 rfl rfl)
theorem dX4_init_20 : decode cX4_init 20 = .ok (.aload_n 0, 1) := dk_42 (dk_at dksX4_init_0 20 rfl rfl)
theorem dX4_init_21 : decode cX4_init 21 = .ok (.bipush 48, 2) := dk_16 48 (dk_at dksX4_init_0 21 rfl rfl)
theorem dX4_init_23 : decode cX4_init 23 = .ok (.newarray .int, 2) := dk_188_10 (dk_at dksX4_init_1 0 rfl rfl)
theorem dX4_init_25 : decode cX4_init 25 = .ok (.putfield 18, 3) := dk_181 0 18 (dk_at dksX4_init_1 2 rfl rfl)
theorem dX4_init_28 : decode cX4_init 28 = .ok (.aload_n 0, 1) := dk_42 (dk_at dksX4_init_1 5 rfl rfl)
theorem dX4_init_29 : decode cX4_init 29 = .ok (.bipush 48, 2) := dk_16 48 (dk_at dksX4_init_1 6 rfl rfl)
theorem dX4_init_31 : decode cX4_init 31 = .ok (.newarray .int, 2) := dk_188_10 (dk_at dksX4_init_1 8 rfl rfl)
theorem dX4_init_33 : decode cX4_init 33 = .ok (.putfield 21, 3) := dk_181 0 21 (dk_at dksX4_init_1 10 rfl rfl)
theorem dX4_init_36 : decode cX4_init 36 = .ok (.aload_n 0, 1) := dk_42 (dk_at dksX4_init_1 13 rfl rfl)
theorem dX4_init_37 : decode cX4_init 37 = .ok (.bipush 8, 2) := dk_16 8 (dk_at dksX4_init_1 14 rfl rfl)
theorem dX4_init_39 : decode cX4_init 39 = .ok (.newarray .int, 2) := dk_188_10 (dk_at dksX4_init_1 16 rfl rfl)
theorem dX4_init_41 : decode cX4_init 41 = .ok (.putfield 24, 3) := dk_181 0 24 (dk_at dksX4_init_1 18 rfl rfl)
theorem dX4_init_44 : decode cX4_init 44 = .ok (.aload_n 0, 1) := dk_42 (dk_at dksX4_init_1 21 rfl rfl)
theorem dX4_init_45 : decode cX4_init 45 = .ok (.bipush 8, 2) := dk_16 8 (dk_at dksX4_init_1 22 rfl rfl)
theorem dX4_init_47 : decode cX4_init 47 = .ok (.newarray .int, 2) := dk_188_10 (dk_at dksX4_init_2 0 rfl rfl)
theorem dX4_init_49 : decode cX4_init 49 = .ok (.putfield 27, 3) := dk_181 0 27 (dk_at dksX4_init_2 2 rfl rfl)
theorem dX4_init_52 : decode cX4_init 52 = .ok (.aload_n 0, 1) := dk_42 (dk_at dksX4_init_2 5 rfl rfl)
theorem dX4_init_53 : decode cX4_init 53 = .ok (.bipush 7, 2) := dk_16 7 (dk_at dksX4_init_2 6 rfl rfl)
theorem dX4_init_55 : decode cX4_init 55 = .ok (.newarray .int, 2) := dk_188_10 (dk_at dksX4_init_2 8 rfl rfl)
theorem dX4_init_57 : decode cX4_init 57 = .ok (.putfield 30, 3) := dk_181 0 30 (dk_at dksX4_init_2 10 rfl rfl)
theorem dX4_init_60 : decode cX4_init 60 = .ok (.aload_n 0, 1) := dk_42 (dk_at dksX4_init_2 13 rfl rfl)
theorem dX4_init_61 : decode cX4_init 61 = .ok (.bipush 7, 2) := dk_16 7 (dk_at dksX4_init_2 14 rfl rfl)
theorem dX4_init_63 : decode cX4_init 63 = .ok (.newarray .int, 2) := dk_188_10 (dk_at dksX4_init_2 16 rfl rfl)
theorem dX4_init_65 : decode cX4_init 65 = .ok (.putfield 33, 3) := dk_181 0 33 (dk_at dksX4_init_2 18 rfl rfl)
theorem dX4_init_68 : decode cX4_init 68 = .ok (.aload_n 0, 1) := dk_42 (dk_at dksX4_init_2 21 rfl rfl)
theorem dX4_init_69 : decode cX4_init 69 = .ok (.bipush 7, 2) := dk_16 7 (dk_at dksX4_init_2 22 rfl rfl)
theorem dX4_init_71 : decode cX4_init 71 = .ok (.newarray .int, 2) := dk_188_10 (dk_at dksX4_init_3 0 rfl rfl)
theorem dX4_init_73 : decode cX4_init 73 = .ok (.putfield 36, 3) := dk_181 0 36 (dk_at dksX4_init_3 2 rfl rfl)
theorem dX4_init_76 : decode cX4_init 76 = .ok (.return_, 1) := dk_177 (dk_at dksX4_init_3 5 rfl rfl)
abbrev cX4_begins : ByteArray := prog_8_method_3_code
def yX4_begins : MethodName := ⟨RX4, "begins", "(I)V"⟩
def dkwX4_begins_2 : List UInt8 := [180, 0, 27, 28, 3, 79, 132, 2, 1, 167, 255, 240, 42, 182, 0, 86, 177]
abbrev dktX4_begins_2 : List UInt8 := dkwX4_begins_2 ++ []
def dkwX4_begins_1 : List UInt8 := [181, 0, 52, 42, 3, 181, 0, 55, 42, 3, 181, 0, 58, 3, 61, 28, 16, 8, 162, 0, 16, 42]
abbrev dktX4_begins_1 : List UInt8 := dkwX4_begins_1 ++ dktX4_begins_2
def dkwX4_begins_0 : List UInt8 := [42, 3, 181, 0, 39, 42, 2, 181, 0, 43, 42, 3, 181, 0, 46, 42, 3, 181, 0, 49, 42, 27]
abbrev dktX4_begins_0 : List UInt8 := dkwX4_begins_0 ++ dktX4_begins_1
theorem dksX4_begins_0 : cX4_begins.data.toList.drop 0 = dktX4_begins_0 := by decide +kernel
theorem dksX4_begins_1 : cX4_begins.data.toList.drop 22 = dktX4_begins_1 := dk_seg dksX4_begins_0 22 rfl rfl
theorem dksX4_begins_2 : cX4_begins.data.toList.drop 44 = dktX4_begins_2 := dk_seg dksX4_begins_1 22 rfl rfl
theorem dX4_begins_0 : decode cX4_begins 0 = .ok (.aload_n 0, 1) := dk_42 (dk_at dksX4_begins_0 0 rfl rfl)
theorem dX4_begins_1 : decode cX4_begins 1 = .ok (.iconst 0, 1) := dk_3 (dk_at dksX4_begins_0 1 rfl rfl)
theorem dX4_begins_2 : decode cX4_begins 2 = .ok (.putfield 39, 3) := dk_181 0 39 (dk_at dksX4_begins_0 2 rfl rfl)
theorem dX4_begins_5 : decode cX4_begins 5 = .ok (.aload_n 0, 1) := dk_42 (dk_at dksX4_begins_0 5 rfl rfl)
theorem dX4_begins_6 : decode cX4_begins 6 = .ok (.iconst (-1), 1) := dk_2 (dk_at dksX4_begins_0 6 rfl rfl)
theorem dX4_begins_7 : decode cX4_begins 7 = .ok (.putfield 43, 3) := dk_181 0 43 (dk_at dksX4_begins_0 7 rfl rfl)
theorem dX4_begins_10 : decode cX4_begins 10 = .ok (.aload_n 0, 1) := dk_42 (dk_at dksX4_begins_0 10 rfl rfl)
theorem dX4_begins_11 : decode cX4_begins 11 = .ok (.iconst 0, 1) := dk_3 (dk_at dksX4_begins_0 11 rfl rfl)
theorem dX4_begins_12 : decode cX4_begins 12 = .ok (.putfield 46, 3) := dk_181 0 46 (dk_at dksX4_begins_0 12 rfl rfl)
theorem dX4_begins_15 : decode cX4_begins 15 = .ok (.aload_n 0, 1) := dk_42 (dk_at dksX4_begins_0 15 rfl rfl)
theorem dX4_begins_16 : decode cX4_begins 16 = .ok (.iconst 0, 1) := dk_3 (dk_at dksX4_begins_0 16 rfl rfl)
theorem dX4_begins_17 : decode cX4_begins 17 = .ok (.putfield 49, 3) := dk_181 0 49 (dk_at dksX4_begins_0 17 rfl rfl)
theorem dX4_begins_20 : decode cX4_begins 20 = .ok (.aload_n 0, 1) := dk_42 (dk_at dksX4_begins_0 20 rfl rfl)
theorem dX4_begins_21 : decode cX4_begins 21 = .ok (.iload_n 1, 1) := dk_27 (dk_at dksX4_begins_0 21 rfl rfl)
theorem dX4_begins_22 : decode cX4_begins 22 = .ok (.putfield 52, 3) := dk_181 0 52 (dk_at dksX4_begins_1 0 rfl rfl)
theorem dX4_begins_25 : decode cX4_begins 25 = .ok (.aload_n 0, 1) := dk_42 (dk_at dksX4_begins_1 3 rfl rfl)
theorem dX4_begins_26 : decode cX4_begins 26 = .ok (.iconst 0, 1) := dk_3 (dk_at dksX4_begins_1 4 rfl rfl)
theorem dX4_begins_27 : decode cX4_begins 27 = .ok (.putfield 55, 3) := dk_181 0 55 (dk_at dksX4_begins_1 5 rfl rfl)
theorem dX4_begins_30 : decode cX4_begins 30 = .ok (.aload_n 0, 1) := dk_42 (dk_at dksX4_begins_1 8 rfl rfl)
theorem dX4_begins_31 : decode cX4_begins 31 = .ok (.iconst 0, 1) := dk_3 (dk_at dksX4_begins_1 9 rfl rfl)
theorem dX4_begins_32 : decode cX4_begins 32 = .ok (.putfield 58, 3) := dk_181 0 58 (dk_at dksX4_begins_1 10 rfl rfl)
theorem dX4_begins_35 : decode cX4_begins 35 = .ok (.iconst 0, 1) := dk_3 (dk_at dksX4_begins_1 13 rfl rfl)
theorem dX4_begins_36 : decode cX4_begins 36 = .ok (.istore_n 2, 1) := dk_61 (dk_at dksX4_begins_1 14 rfl rfl)
theorem dX4_begins_37 : decode cX4_begins 37 = .ok (.iload_n 2, 1) := dk_28 (dk_at dksX4_begins_1 15 rfl rfl)
theorem dX4_begins_38 : decode cX4_begins 38 = .ok (.bipush 8, 2) := dk_16 8 (dk_at dksX4_begins_1 16 rfl rfl)
theorem dX4_begins_40 : decode cX4_begins 40 = .ok (.if_icmp .ge 16, 3) := dk_162 0 16 (dk_at dksX4_begins_1 18 rfl rfl)
theorem dX4_begins_43 : decode cX4_begins 43 = .ok (.aload_n 0, 1) := dk_42 (dk_at dksX4_begins_1 21 rfl rfl)
theorem dX4_begins_44 : decode cX4_begins 44 = .ok (.getfield 27, 3) := dk_180 0 27 (dk_at dksX4_begins_2 0 rfl rfl)
theorem dX4_begins_47 : decode cX4_begins 47 = .ok (.iload_n 2, 1) := dk_28 (dk_at dksX4_begins_2 3 rfl rfl)
theorem dX4_begins_48 : decode cX4_begins 48 = .ok (.iconst 0, 1) := dk_3 (dk_at dksX4_begins_2 4 rfl rfl)
theorem dX4_begins_49 : decode cX4_begins 49 = .ok (.iastore, 1) := dk_79 (dk_at dksX4_begins_2 5 rfl rfl)
theorem dX4_begins_50 : decode cX4_begins 50 = .ok (.iinc 2 1, 3) := dk_132 2 1 (dk_at dksX4_begins_2 6 rfl rfl)
theorem dX4_begins_53 : decode cX4_begins 53 = .ok (.goto (-16), 3) := dk_167 255 240 (dk_at dksX4_begins_2 9 rfl rfl)
theorem dX4_begins_56 : decode cX4_begins 56 = .ok (.aload_n 0, 1) := dk_42 (dk_at dksX4_begins_2 12 rfl rfl)
theorem dX4_begins_57 : decode cX4_begins 57 = .ok (.invokevirtual 86, 3) := dk_182 0 86 (dk_at dksX4_begins_2 13 rfl rfl)
theorem dX4_begins_60 : decode cX4_begins 60 = .ok (.return_, 1) := dk_177 (dk_at dksX4_begins_2 16 rfl rfl)
abbrev cX4_comesUp : ByteArray := prog_8_method_4_code
def yX4_comesUp : MethodName := ⟨RX4, "comesUp", "()V"⟩
def dkwX4_comesUp_2 : List UInt8 := [180, 0, 24, 27, 42, 180, 0, 27, 27, 46, 79, 132, 1, 1, 167, 255, 235, 177]
abbrev dktX4_comesUp_2 : List UInt8 := dkwX4_comesUp_2 ++ []
def dkwX4_comesUp_1 : List UInt8 := [3, 181, 0, 73, 42, 3, 181, 0, 76, 42, 3, 181, 0, 79, 3, 60, 27, 16, 8, 162, 0, 21, 42]
abbrev dktX4_comesUp_1 : List UInt8 := dkwX4_comesUp_1 ++ dktX4_comesUp_2
def dkwX4_comesUp_0 : List UInt8 := [42, 4, 181, 0, 82, 42, 3, 181, 0, 61, 42, 42, 180, 0, 46, 181, 0, 64, 42, 2, 181, 0, 70, 42]
abbrev dktX4_comesUp_0 : List UInt8 := dkwX4_comesUp_0 ++ dktX4_comesUp_1
theorem dksX4_comesUp_0 : cX4_comesUp.data.toList.drop 0 = dktX4_comesUp_0 := by decide +kernel
theorem dksX4_comesUp_1 : cX4_comesUp.data.toList.drop 24 = dktX4_comesUp_1 := dk_seg dksX4_comesUp_0 24 rfl rfl
theorem dksX4_comesUp_2 : cX4_comesUp.data.toList.drop 47 = dktX4_comesUp_2 := dk_seg dksX4_comesUp_1 23 rfl rfl
theorem dX4_comesUp_0 : decode cX4_comesUp 0 = .ok (.aload_n 0, 1) := dk_42 (dk_at dksX4_comesUp_0 0 rfl rfl)
theorem dX4_comesUp_1 : decode cX4_comesUp 1 = .ok (.iconst 1, 1) := dk_4 (dk_at dksX4_comesUp_0 1 rfl rfl)
theorem dX4_comesUp_2 : decode cX4_comesUp 2 = .ok (.putfield 82, 3) := dk_181 0 82 (dk_at dksX4_comesUp_0 2 rfl rfl)
theorem dX4_comesUp_5 : decode cX4_comesUp 5 = .ok (.aload_n 0, 1) := dk_42 (dk_at dksX4_comesUp_0 5 rfl rfl)
theorem dX4_comesUp_6 : decode cX4_comesUp 6 = .ok (.iconst 0, 1) := dk_3 (dk_at dksX4_comesUp_0 6 rfl rfl)
theorem dX4_comesUp_7 : decode cX4_comesUp 7 = .ok (.putfield 61, 3) := dk_181 0 61 (dk_at dksX4_comesUp_0 7 rfl rfl)
theorem dX4_comesUp_10 : decode cX4_comesUp 10 = .ok (.aload_n 0, 1) := dk_42 (dk_at dksX4_comesUp_0 10 rfl rfl)
theorem dX4_comesUp_11 : decode cX4_comesUp 11 = .ok (.aload_n 0, 1) := dk_42 (dk_at dksX4_comesUp_0 11 rfl rfl)
theorem dX4_comesUp_12 : decode cX4_comesUp 12 = .ok (.getfield 46, 3) := dk_180 0 46 (dk_at dksX4_comesUp_0 12 rfl rfl)
theorem dX4_comesUp_15 : decode cX4_comesUp 15 = .ok (.putfield 64, 3) := dk_181 0 64 (dk_at dksX4_comesUp_0 15 rfl rfl)
theorem dX4_comesUp_18 : decode cX4_comesUp 18 = .ok (.aload_n 0, 1) := dk_42 (dk_at dksX4_comesUp_0 18 rfl rfl)
theorem dX4_comesUp_19 : decode cX4_comesUp 19 = .ok (.iconst (-1), 1) := dk_2 (dk_at dksX4_comesUp_0 19 rfl rfl)
theorem dX4_comesUp_20 : decode cX4_comesUp 20 = .ok (.putfield 70, 3) := dk_181 0 70 (dk_at dksX4_comesUp_0 20 rfl rfl)
theorem dX4_comesUp_23 : decode cX4_comesUp 23 = .ok (.aload_n 0, 1) := dk_42 (dk_at dksX4_comesUp_0 23 rfl rfl)
theorem dX4_comesUp_24 : decode cX4_comesUp 24 = .ok (.iconst 0, 1) := dk_3 (dk_at dksX4_comesUp_1 0 rfl rfl)
theorem dX4_comesUp_25 : decode cX4_comesUp 25 = .ok (.putfield 73, 3) := dk_181 0 73 (dk_at dksX4_comesUp_1 1 rfl rfl)
theorem dX4_comesUp_28 : decode cX4_comesUp 28 = .ok (.aload_n 0, 1) := dk_42 (dk_at dksX4_comesUp_1 4 rfl rfl)
theorem dX4_comesUp_29 : decode cX4_comesUp 29 = .ok (.iconst 0, 1) := dk_3 (dk_at dksX4_comesUp_1 5 rfl rfl)
theorem dX4_comesUp_30 : decode cX4_comesUp 30 = .ok (.putfield 76, 3) := dk_181 0 76 (dk_at dksX4_comesUp_1 6 rfl rfl)
theorem dX4_comesUp_33 : decode cX4_comesUp 33 = .ok (.aload_n 0, 1) := dk_42 (dk_at dksX4_comesUp_1 9 rfl rfl)
theorem dX4_comesUp_34 : decode cX4_comesUp 34 = .ok (.iconst 0, 1) := dk_3 (dk_at dksX4_comesUp_1 10 rfl rfl)
theorem dX4_comesUp_35 : decode cX4_comesUp 35 = .ok (.putfield 79, 3) := dk_181 0 79 (dk_at dksX4_comesUp_1 11 rfl rfl)
theorem dX4_comesUp_38 : decode cX4_comesUp 38 = .ok (.iconst 0, 1) := dk_3 (dk_at dksX4_comesUp_1 14 rfl rfl)
theorem dX4_comesUp_39 : decode cX4_comesUp 39 = .ok (.istore_n 1, 1) := dk_60 (dk_at dksX4_comesUp_1 15 rfl rfl)
theorem dX4_comesUp_40 : decode cX4_comesUp 40 = .ok (.iload_n 1, 1) := dk_27 (dk_at dksX4_comesUp_1 16 rfl rfl)
theorem dX4_comesUp_41 : decode cX4_comesUp 41 = .ok (.bipush 8, 2) := dk_16 8 (dk_at dksX4_comesUp_1 17 rfl rfl)
theorem dX4_comesUp_43 : decode cX4_comesUp 43 = .ok (.if_icmp .ge 21, 3) := dk_162 0 21 (dk_at dksX4_comesUp_1 19 rfl rfl)
theorem dX4_comesUp_46 : decode cX4_comesUp 46 = .ok (.aload_n 0, 1) := dk_42 (dk_at dksX4_comesUp_1 22 rfl rfl)
theorem dX4_comesUp_47 : decode cX4_comesUp 47 = .ok (.getfield 24, 3) := dk_180 0 24 (dk_at dksX4_comesUp_2 0 rfl rfl)
theorem dX4_comesUp_50 : decode cX4_comesUp 50 = .ok (.iload_n 1, 1) := dk_27 (dk_at dksX4_comesUp_2 3 rfl rfl)
theorem dX4_comesUp_51 : decode cX4_comesUp 51 = .ok (.aload_n 0, 1) := dk_42 (dk_at dksX4_comesUp_2 4 rfl rfl)
theorem dX4_comesUp_52 : decode cX4_comesUp 52 = .ok (.getfield 27, 3) := dk_180 0 27 (dk_at dksX4_comesUp_2 5 rfl rfl)
theorem dX4_comesUp_55 : decode cX4_comesUp 55 = .ok (.iload_n 1, 1) := dk_27 (dk_at dksX4_comesUp_2 8 rfl rfl)
theorem dX4_comesUp_56 : decode cX4_comesUp 56 = .ok (.iaload, 1) := dk_46 (dk_at dksX4_comesUp_2 9 rfl rfl)
theorem dX4_comesUp_57 : decode cX4_comesUp 57 = .ok (.iastore, 1) := dk_79 (dk_at dksX4_comesUp_2 10 rfl rfl)
theorem dX4_comesUp_58 : decode cX4_comesUp 58 = .ok (.iinc 1 1, 3) := dk_132 1 1 (dk_at dksX4_comesUp_2 11 rfl rfl)
theorem dX4_comesUp_61 : decode cX4_comesUp 61 = .ok (.goto (-21), 3) := dk_167 255 235 (dk_at dksX4_comesUp_2 14 rfl rfl)
theorem dX4_comesUp_64 : decode cX4_comesUp 64 = .ok (.return_, 1) := dk_177 (dk_at dksX4_comesUp_2 17 rfl rfl)
abbrev cX4_compacts : ByteArray := prog_8_method_19_code
def yX4_compacts : MethodName := ⟨RX4, "compacts", "()V"⟩
def dkwX4_compacts_4 : List UInt8 := [177]
abbrev dktX4_compacts_4 : List UInt8 := dkwX4_compacts_4 ++ []
def dkwX4_compacts_3 : List UInt8 := [167, 255, 232, 42, 42, 180, 0, 64, 42, 180, 0, 46, 100, 182, 0, 124, 42, 42, 180, 0, 64, 181, 0, 46]
abbrev dktX4_compacts_3 : List UInt8 := dkwX4_compacts_3 ++ dktX4_compacts_4
def dkwX4_compacts_2 : List UInt8 := [16, 8, 162, 0, 23, 42, 180, 0, 27, 21, 4, 42, 180, 0, 24, 21, 4, 46, 79, 132, 4, 1]
abbrev dktX4_compacts_2 : List UInt8 := dkwX4_compacts_2 ++ dktX4_compacts_3
def dkwX4_compacts_1 : List UInt8 := [180, 0, 64, 182, 0, 121, 181, 0, 49, 42, 28, 181, 0, 52, 42, 29, 181, 0, 55, 3, 54, 4, 21, 4]
abbrev dktX4_compacts_1 : List UInt8 := dkwX4_compacts_1 ++ dktX4_compacts_2
def dkwX4_compacts_0 : List UInt8 := [42, 42, 180, 0, 64, 182, 0, 97, 60, 42, 27, 182, 0, 100, 61, 42, 27, 182, 0, 103, 62, 42, 42, 42]
abbrev dktX4_compacts_0 : List UInt8 := dkwX4_compacts_0 ++ dktX4_compacts_1
theorem dksX4_compacts_0 : cX4_compacts.data.toList.drop 0 = dktX4_compacts_0 := by decide +kernel
theorem dksX4_compacts_1 : cX4_compacts.data.toList.drop 24 = dktX4_compacts_1 := dk_seg dksX4_compacts_0 24 rfl rfl
theorem dksX4_compacts_2 : cX4_compacts.data.toList.drop 48 = dktX4_compacts_2 := dk_seg dksX4_compacts_1 24 rfl rfl
theorem dksX4_compacts_3 : cX4_compacts.data.toList.drop 70 = dktX4_compacts_3 := dk_seg dksX4_compacts_2 22 rfl rfl
theorem dksX4_compacts_4 : cX4_compacts.data.toList.drop 94 = dktX4_compacts_4 := dk_seg dksX4_compacts_3 24 rfl rfl
theorem dX4_compacts_0 : decode cX4_compacts 0 = .ok (.aload_n 0, 1) := dk_42 (dk_at dksX4_compacts_0 0 rfl rfl)
theorem dX4_compacts_1 : decode cX4_compacts 1 = .ok (.aload_n 0, 1) := dk_42 (dk_at dksX4_compacts_0 1 rfl rfl)
theorem dX4_compacts_2 : decode cX4_compacts 2 = .ok (.getfield 64, 3) := dk_180 0 64 (dk_at dksX4_compacts_0 2 rfl rfl)
theorem dX4_compacts_5 : decode cX4_compacts 5 = .ok (.invokevirtual 97, 3) := dk_182 0 97 (dk_at dksX4_compacts_0 5 rfl rfl)
theorem dX4_compacts_8 : decode cX4_compacts 8 = .ok (.istore_n 1, 1) := dk_60 (dk_at dksX4_compacts_0 8 rfl rfl)
theorem dX4_compacts_9 : decode cX4_compacts 9 = .ok (.aload_n 0, 1) := dk_42 (dk_at dksX4_compacts_0 9 rfl rfl)
theorem dX4_compacts_10 : decode cX4_compacts 10 = .ok (.iload_n 1, 1) := dk_27 (dk_at dksX4_compacts_0 10 rfl rfl)
theorem dX4_compacts_11 : decode cX4_compacts 11 = .ok (.invokevirtual 100, 3) := dk_182 0 100 (dk_at dksX4_compacts_0 11 rfl rfl)
theorem dX4_compacts_14 : decode cX4_compacts 14 = .ok (.istore_n 2, 1) := dk_61 (dk_at dksX4_compacts_0 14 rfl rfl)
theorem dX4_compacts_15 : decode cX4_compacts 15 = .ok (.aload_n 0, 1) := dk_42 (dk_at dksX4_compacts_0 15 rfl rfl)
theorem dX4_compacts_16 : decode cX4_compacts 16 = .ok (.iload_n 1, 1) := dk_27 (dk_at dksX4_compacts_0 16 rfl rfl)
theorem dX4_compacts_17 : decode cX4_compacts 17 = .ok (.invokevirtual 103, 3) := dk_182 0 103 (dk_at dksX4_compacts_0 17 rfl rfl)
theorem dX4_compacts_20 : decode cX4_compacts 20 = .ok (.istore_n 3, 1) := dk_62 (dk_at dksX4_compacts_0 20 rfl rfl)
theorem dX4_compacts_21 : decode cX4_compacts 21 = .ok (.aload_n 0, 1) := dk_42 (dk_at dksX4_compacts_0 21 rfl rfl)
theorem dX4_compacts_22 : decode cX4_compacts 22 = .ok (.aload_n 0, 1) := dk_42 (dk_at dksX4_compacts_0 22 rfl rfl)
theorem dX4_compacts_23 : decode cX4_compacts 23 = .ok (.aload_n 0, 1) := dk_42 (dk_at dksX4_compacts_0 23 rfl rfl)
theorem dX4_compacts_24 : decode cX4_compacts 24 = .ok (.getfield 64, 3) := dk_180 0 64 (dk_at dksX4_compacts_1 0 rfl rfl)
theorem dX4_compacts_27 : decode cX4_compacts 27 = .ok (.invokevirtual 121, 3) := dk_182 0 121 (dk_at dksX4_compacts_1 3 rfl rfl)
theorem dX4_compacts_30 : decode cX4_compacts 30 = .ok (.putfield 49, 3) := dk_181 0 49 (dk_at dksX4_compacts_1 6 rfl rfl)
theorem dX4_compacts_33 : decode cX4_compacts 33 = .ok (.aload_n 0, 1) := dk_42 (dk_at dksX4_compacts_1 9 rfl rfl)
theorem dX4_compacts_34 : decode cX4_compacts 34 = .ok (.iload_n 2, 1) := dk_28 (dk_at dksX4_compacts_1 10 rfl rfl)
theorem dX4_compacts_35 : decode cX4_compacts 35 = .ok (.putfield 52, 3) := dk_181 0 52 (dk_at dksX4_compacts_1 11 rfl rfl)
theorem dX4_compacts_38 : decode cX4_compacts 38 = .ok (.aload_n 0, 1) := dk_42 (dk_at dksX4_compacts_1 14 rfl rfl)
theorem dX4_compacts_39 : decode cX4_compacts 39 = .ok (.iload_n 3, 1) := dk_29 (dk_at dksX4_compacts_1 15 rfl rfl)
theorem dX4_compacts_40 : decode cX4_compacts 40 = .ok (.putfield 55, 3) := dk_181 0 55 (dk_at dksX4_compacts_1 16 rfl rfl)
theorem dX4_compacts_43 : decode cX4_compacts 43 = .ok (.iconst 0, 1) := dk_3 (dk_at dksX4_compacts_1 19 rfl rfl)
theorem dX4_compacts_44 : decode cX4_compacts 44 = .ok (.istore 4, 2) := dk_54 4 (dk_at dksX4_compacts_1 20 rfl rfl)
theorem dX4_compacts_46 : decode cX4_compacts 46 = .ok (.iload 4, 2) := dk_21 4 (dk_at dksX4_compacts_1 22 rfl rfl)
theorem dX4_compacts_48 : decode cX4_compacts 48 = .ok (.bipush 8, 2) := dk_16 8 (dk_at dksX4_compacts_2 0 rfl rfl)
theorem dX4_compacts_50 : decode cX4_compacts 50 = .ok (.if_icmp .ge 23, 3) := dk_162 0 23 (dk_at dksX4_compacts_2 2 rfl rfl)
theorem dX4_compacts_53 : decode cX4_compacts 53 = .ok (.aload_n 0, 1) := dk_42 (dk_at dksX4_compacts_2 5 rfl rfl)
theorem dX4_compacts_54 : decode cX4_compacts 54 = .ok (.getfield 27, 3) := dk_180 0 27 (dk_at dksX4_compacts_2 6 rfl rfl)
theorem dX4_compacts_57 : decode cX4_compacts 57 = .ok (.iload 4, 2) := dk_21 4 (dk_at dksX4_compacts_2 9 rfl rfl)
theorem dX4_compacts_59 : decode cX4_compacts 59 = .ok (.aload_n 0, 1) := dk_42 (dk_at dksX4_compacts_2 11 rfl rfl)
theorem dX4_compacts_60 : decode cX4_compacts 60 = .ok (.getfield 24, 3) := dk_180 0 24 (dk_at dksX4_compacts_2 12 rfl rfl)
theorem dX4_compacts_63 : decode cX4_compacts 63 = .ok (.iload 4, 2) := dk_21 4 (dk_at dksX4_compacts_2 15 rfl rfl)
theorem dX4_compacts_65 : decode cX4_compacts 65 = .ok (.iaload, 1) := dk_46 (dk_at dksX4_compacts_2 17 rfl rfl)
theorem dX4_compacts_66 : decode cX4_compacts 66 = .ok (.iastore, 1) := dk_79 (dk_at dksX4_compacts_2 18 rfl rfl)
theorem dX4_compacts_67 : decode cX4_compacts 67 = .ok (.iinc 4 1, 3) := dk_132 4 1 (dk_at dksX4_compacts_2 19 rfl rfl)
theorem dX4_compacts_70 : decode cX4_compacts 70 = .ok (.goto (-24), 3) := dk_167 255 232 (dk_at dksX4_compacts_3 0 rfl rfl)
theorem dX4_compacts_73 : decode cX4_compacts 73 = .ok (.aload_n 0, 1) := dk_42 (dk_at dksX4_compacts_3 3 rfl rfl)
theorem dX4_compacts_74 : decode cX4_compacts 74 = .ok (.aload_n 0, 1) := dk_42 (dk_at dksX4_compacts_3 4 rfl rfl)
theorem dX4_compacts_75 : decode cX4_compacts 75 = .ok (.getfield 64, 3) := dk_180 0 64 (dk_at dksX4_compacts_3 5 rfl rfl)
theorem dX4_compacts_78 : decode cX4_compacts 78 = .ok (.aload_n 0, 1) := dk_42 (dk_at dksX4_compacts_3 8 rfl rfl)
theorem dX4_compacts_79 : decode cX4_compacts 79 = .ok (.getfield 46, 3) := dk_180 0 46 (dk_at dksX4_compacts_3 9 rfl rfl)
theorem dX4_compacts_82 : decode cX4_compacts 82 = .ok (.isub, 1) := dk_100 (dk_at dksX4_compacts_3 12 rfl rfl)
theorem dX4_compacts_83 : decode cX4_compacts 83 = .ok (.invokevirtual 124, 3) := dk_182 0 124 (dk_at dksX4_compacts_3 13 rfl rfl)
theorem dX4_compacts_86 : decode cX4_compacts 86 = .ok (.aload_n 0, 1) := dk_42 (dk_at dksX4_compacts_3 16 rfl rfl)
theorem dX4_compacts_87 : decode cX4_compacts 87 = .ok (.aload_n 0, 1) := dk_42 (dk_at dksX4_compacts_3 17 rfl rfl)
theorem dX4_compacts_88 : decode cX4_compacts 88 = .ok (.getfield 64, 3) := dk_180 0 64 (dk_at dksX4_compacts_3 18 rfl rfl)
theorem dX4_compacts_91 : decode cX4_compacts 91 = .ok (.putfield 46, 3) := dk_181 0 46 (dk_at dksX4_compacts_3 21 rfl rfl)
theorem dX4_compacts_94 : decode cX4_compacts 94 = .ok (.return_, 1) := dk_177 (dk_at dksX4_compacts_4 0 rfl rfl)
abbrev cX4_configAt : ByteArray := prog_8_method_9_code
def yX4_configAt : MethodName := ⟨RX4, "configAt", "(I)I"⟩
def dkwX4_configAt_1 : List UInt8 := [167, 255, 236, 28, 172]
abbrev dktX4_configAt_1 : List UInt8 := dkwX4_configAt_1 ++ []
def dkwX4_configAt_0 : List UInt8 := [27, 61, 28, 42, 180, 0, 46, 164, 0, 18, 42, 28, 182, 0, 93, 4, 159, 0, 9, 132, 2, 255]
abbrev dktX4_configAt_0 : List UInt8 := dkwX4_configAt_0 ++ dktX4_configAt_1
theorem dksX4_configAt_0 : cX4_configAt.data.toList.drop 0 = dktX4_configAt_0 := by decide +kernel
theorem dksX4_configAt_1 : cX4_configAt.data.toList.drop 22 = dktX4_configAt_1 := dk_seg dksX4_configAt_0 22 rfl rfl
theorem dX4_configAt_0 : decode cX4_configAt 0 = .ok (.iload_n 1, 1) := dk_27 (dk_at dksX4_configAt_0 0 rfl rfl)
theorem dX4_configAt_1 : decode cX4_configAt 1 = .ok (.istore_n 2, 1) := dk_61 (dk_at dksX4_configAt_0 1 rfl rfl)
theorem dX4_configAt_2 : decode cX4_configAt 2 = .ok (.iload_n 2, 1) := dk_28 (dk_at dksX4_configAt_0 2 rfl rfl)
theorem dX4_configAt_3 : decode cX4_configAt 3 = .ok (.aload_n 0, 1) := dk_42 (dk_at dksX4_configAt_0 3 rfl rfl)
theorem dX4_configAt_4 : decode cX4_configAt 4 = .ok (.getfield 46, 3) := dk_180 0 46 (dk_at dksX4_configAt_0 4 rfl rfl)
theorem dX4_configAt_7 : decode cX4_configAt 7 = .ok (.if_icmp .le 18, 3) := dk_164 0 18 (dk_at dksX4_configAt_0 7 rfl rfl)
theorem dX4_configAt_10 : decode cX4_configAt 10 = .ok (.aload_n 0, 1) := dk_42 (dk_at dksX4_configAt_0 10 rfl rfl)
theorem dX4_configAt_11 : decode cX4_configAt 11 = .ok (.iload_n 2, 1) := dk_28 (dk_at dksX4_configAt_0 11 rfl rfl)
theorem dX4_configAt_12 : decode cX4_configAt 12 = .ok (.invokevirtual 93, 3) := dk_182 0 93 (dk_at dksX4_configAt_0 12 rfl rfl)
theorem dX4_configAt_15 : decode cX4_configAt 15 = .ok (.iconst 1, 1) := dk_4 (dk_at dksX4_configAt_0 15 rfl rfl)
theorem dX4_configAt_16 : decode cX4_configAt 16 = .ok (.if_icmp .eq 9, 3) := dk_159 0 9 (dk_at dksX4_configAt_0 16 rfl rfl)
theorem dX4_configAt_19 : decode cX4_configAt 19 = .ok (.iinc 2 (-1), 3) := dk_132 2 255 (dk_at dksX4_configAt_0 19 rfl rfl)
theorem dX4_configAt_22 : decode cX4_configAt 22 = .ok (.goto (-20), 3) := dk_167 255 236 (dk_at dksX4_configAt_1 0 rfl rfl)
theorem dX4_configAt_25 : decode cX4_configAt 25 = .ok (.iload_n 2, 1) := dk_28 (dk_at dksX4_configAt_1 3 rfl rfl)
theorem dX4_configAt_26 : decode cX4_configAt 26 = .ok (.ireturn, 1) := dk_172 (dk_at dksX4_configAt_1 4 rfl rfl)
abbrev cX4_kindAt : ByteArray := prog_8_method_8_code
def yX4_kindAt : MethodName := ⟨RX4, "kindAt", "(I)I"⟩
def dkwX4_kindAt_0 : List UInt8 := [42, 180, 0, 15, 27, 42, 180, 0, 46, 100, 4, 100, 46, 172]
abbrev dktX4_kindAt_0 : List UInt8 := dkwX4_kindAt_0 ++ []
theorem dksX4_kindAt_0 : cX4_kindAt.data.toList.drop 0 = dktX4_kindAt_0 := by decide +kernel
theorem dX4_kindAt_0 : decode cX4_kindAt 0 = .ok (.aload_n 0, 1) := dk_42 (dk_at dksX4_kindAt_0 0 rfl rfl)
theorem dX4_kindAt_1 : decode cX4_kindAt 1 = .ok (.getfield 15, 3) := dk_180 0 15 (dk_at dksX4_kindAt_0 1 rfl rfl)
theorem dX4_kindAt_4 : decode cX4_kindAt 4 = .ok (.iload_n 1, 1) := dk_27 (dk_at dksX4_kindAt_0 4 rfl rfl)
theorem dX4_kindAt_5 : decode cX4_kindAt 5 = .ok (.aload_n 0, 1) := dk_42 (dk_at dksX4_kindAt_0 5 rfl rfl)
theorem dX4_kindAt_6 : decode cX4_kindAt 6 = .ok (.getfield 46, 3) := dk_180 0 46 (dk_at dksX4_kindAt_0 6 rfl rfl)
theorem dX4_kindAt_9 : decode cX4_kindAt 9 = .ok (.isub, 1) := dk_100 (dk_at dksX4_kindAt_0 9 rfl rfl)
theorem dX4_kindAt_10 : decode cX4_kindAt 10 = .ok (.iconst 1, 1) := dk_4 (dk_at dksX4_kindAt_0 10 rfl rfl)
theorem dX4_kindAt_11 : decode cX4_kindAt 11 = .ok (.isub, 1) := dk_100 (dk_at dksX4_kindAt_0 11 rfl rfl)
theorem dX4_kindAt_12 : decode cX4_kindAt 12 = .ok (.iaload, 1) := dk_46 (dk_at dksX4_kindAt_0 12 rfl rfl)
theorem dX4_kindAt_13 : decode cX4_kindAt 13 = .ok (.ireturn, 1) := dk_172 (dk_at dksX4_kindAt_0 13 rfl rfl)
abbrev cX4_oldAt : ByteArray := prog_8_method_10_code
def yX4_oldAt : MethodName := ⟨RX4, "oldAt", "(I)I"⟩
def dkwX4_oldAt_1 : List UInt8 := [100, 4, 100, 46, 172]
abbrev dktX4_oldAt_1 : List UInt8 := dkwX4_oldAt_1 ++ []
def dkwX4_oldAt_0 : List UInt8 := [27, 42, 180, 0, 46, 160, 0, 10, 42, 180, 0, 52, 167, 0, 16, 42, 180, 0, 18, 27, 42, 180, 0, 46]
abbrev dktX4_oldAt_0 : List UInt8 := dkwX4_oldAt_0 ++ dktX4_oldAt_1
theorem dksX4_oldAt_0 : cX4_oldAt.data.toList.drop 0 = dktX4_oldAt_0 := by decide +kernel
theorem dksX4_oldAt_1 : cX4_oldAt.data.toList.drop 24 = dktX4_oldAt_1 := dk_seg dksX4_oldAt_0 24 rfl rfl
theorem dX4_oldAt_0 : decode cX4_oldAt 0 = .ok (.iload_n 1, 1) := dk_27 (dk_at dksX4_oldAt_0 0 rfl rfl)
theorem dX4_oldAt_1 : decode cX4_oldAt 1 = .ok (.aload_n 0, 1) := dk_42 (dk_at dksX4_oldAt_0 1 rfl rfl)
theorem dX4_oldAt_2 : decode cX4_oldAt 2 = .ok (.getfield 46, 3) := dk_180 0 46 (dk_at dksX4_oldAt_0 2 rfl rfl)
theorem dX4_oldAt_5 : decode cX4_oldAt 5 = .ok (.if_icmp .ne 10, 3) := dk_160 0 10 (dk_at dksX4_oldAt_0 5 rfl rfl)
theorem dX4_oldAt_8 : decode cX4_oldAt 8 = .ok (.aload_n 0, 1) := dk_42 (dk_at dksX4_oldAt_0 8 rfl rfl)
theorem dX4_oldAt_9 : decode cX4_oldAt 9 = .ok (.getfield 52, 3) := dk_180 0 52 (dk_at dksX4_oldAt_0 9 rfl rfl)
theorem dX4_oldAt_12 : decode cX4_oldAt 12 = .ok (.goto 16, 3) := dk_167 0 16 (dk_at dksX4_oldAt_0 12 rfl rfl)
theorem dX4_oldAt_15 : decode cX4_oldAt 15 = .ok (.aload_n 0, 1) := dk_42 (dk_at dksX4_oldAt_0 15 rfl rfl)
theorem dX4_oldAt_16 : decode cX4_oldAt 16 = .ok (.getfield 18, 3) := dk_180 0 18 (dk_at dksX4_oldAt_0 16 rfl rfl)
theorem dX4_oldAt_19 : decode cX4_oldAt 19 = .ok (.iload_n 1, 1) := dk_27 (dk_at dksX4_oldAt_0 19 rfl rfl)
theorem dX4_oldAt_20 : decode cX4_oldAt 20 = .ok (.aload_n 0, 1) := dk_42 (dk_at dksX4_oldAt_0 20 rfl rfl)
theorem dX4_oldAt_21 : decode cX4_oldAt 21 = .ok (.getfield 46, 3) := dk_180 0 46 (dk_at dksX4_oldAt_0 21 rfl rfl)
theorem dX4_oldAt_24 : decode cX4_oldAt 24 = .ok (.isub, 1) := dk_100 (dk_at dksX4_oldAt_1 0 rfl rfl)
theorem dX4_oldAt_25 : decode cX4_oldAt 25 = .ok (.iconst 1, 1) := dk_4 (dk_at dksX4_oldAt_1 1 rfl rfl)
theorem dX4_oldAt_26 : decode cX4_oldAt 26 = .ok (.isub, 1) := dk_100 (dk_at dksX4_oldAt_1 2 rfl rfl)
theorem dX4_oldAt_27 : decode cX4_oldAt 27 = .ok (.iaload, 1) := dk_46 (dk_at dksX4_oldAt_1 3 rfl rfl)
theorem dX4_oldAt_28 : decode cX4_oldAt 28 = .ok (.ireturn, 1) := dk_172 (dk_at dksX4_oldAt_1 4 rfl rfl)
abbrev cX4_newAt : ByteArray := prog_8_method_11_code
def yX4_newAt : MethodName := ⟨RX4, "newAt", "(I)I"⟩
def dkwX4_newAt_1 : List UInt8 := [100, 4, 100, 46, 172]
abbrev dktX4_newAt_1 : List UInt8 := dkwX4_newAt_1 ++ []
def dkwX4_newAt_0 : List UInt8 := [27, 42, 180, 0, 46, 160, 0, 10, 42, 180, 0, 55, 167, 0, 16, 42, 180, 0, 21, 27, 42, 180, 0, 46]
abbrev dktX4_newAt_0 : List UInt8 := dkwX4_newAt_0 ++ dktX4_newAt_1
theorem dksX4_newAt_0 : cX4_newAt.data.toList.drop 0 = dktX4_newAt_0 := by decide +kernel
theorem dksX4_newAt_1 : cX4_newAt.data.toList.drop 24 = dktX4_newAt_1 := dk_seg dksX4_newAt_0 24 rfl rfl
theorem dX4_newAt_0 : decode cX4_newAt 0 = .ok (.iload_n 1, 1) := dk_27 (dk_at dksX4_newAt_0 0 rfl rfl)
theorem dX4_newAt_1 : decode cX4_newAt 1 = .ok (.aload_n 0, 1) := dk_42 (dk_at dksX4_newAt_0 1 rfl rfl)
theorem dX4_newAt_2 : decode cX4_newAt 2 = .ok (.getfield 46, 3) := dk_180 0 46 (dk_at dksX4_newAt_0 2 rfl rfl)
theorem dX4_newAt_5 : decode cX4_newAt 5 = .ok (.if_icmp .ne 10, 3) := dk_160 0 10 (dk_at dksX4_newAt_0 5 rfl rfl)
theorem dX4_newAt_8 : decode cX4_newAt 8 = .ok (.aload_n 0, 1) := dk_42 (dk_at dksX4_newAt_0 8 rfl rfl)
theorem dX4_newAt_9 : decode cX4_newAt 9 = .ok (.getfield 55, 3) := dk_180 0 55 (dk_at dksX4_newAt_0 9 rfl rfl)
theorem dX4_newAt_12 : decode cX4_newAt 12 = .ok (.goto 16, 3) := dk_167 0 16 (dk_at dksX4_newAt_0 12 rfl rfl)
theorem dX4_newAt_15 : decode cX4_newAt 15 = .ok (.aload_n 0, 1) := dk_42 (dk_at dksX4_newAt_0 15 rfl rfl)
theorem dX4_newAt_16 : decode cX4_newAt 16 = .ok (.getfield 21, 3) := dk_180 0 21 (dk_at dksX4_newAt_0 16 rfl rfl)
theorem dX4_newAt_19 : decode cX4_newAt 19 = .ok (.iload_n 1, 1) := dk_27 (dk_at dksX4_newAt_0 19 rfl rfl)
theorem dX4_newAt_20 : decode cX4_newAt 20 = .ok (.aload_n 0, 1) := dk_42 (dk_at dksX4_newAt_0 20 rfl rfl)
theorem dX4_newAt_21 : decode cX4_newAt 21 = .ok (.getfield 46, 3) := dk_180 0 46 (dk_at dksX4_newAt_0 21 rfl rfl)
theorem dX4_newAt_24 : decode cX4_newAt 24 = .ok (.isub, 1) := dk_100 (dk_at dksX4_newAt_1 0 rfl rfl)
theorem dX4_newAt_25 : decode cX4_newAt 25 = .ok (.iconst 1, 1) := dk_4 (dk_at dksX4_newAt_1 1 rfl rfl)
theorem dX4_newAt_26 : decode cX4_newAt 26 = .ok (.isub, 1) := dk_100 (dk_at dksX4_newAt_1 2 rfl rfl)
theorem dX4_newAt_27 : decode cX4_newAt 27 = .ok (.iaload, 1) := dk_46 (dk_at dksX4_newAt_1 3 rfl rfl)
theorem dX4_newAt_28 : decode cX4_newAt 28 = .ok (.ireturn, 1) := dk_172 (dk_at dksX4_newAt_1 4 rfl rfl)
abbrev cX4_termAt : ByteArray := prog_8_method_7_code
def yX4_termAt : MethodName := ⟨RX4, "termAt", "(I)I"⟩
def dkwX4_termAt_1 : List UInt8 := [100, 4, 100, 46, 172]
abbrev dktX4_termAt_1 : List UInt8 := dkwX4_termAt_1 ++ []
def dkwX4_termAt_0 : List UInt8 := [27, 42, 180, 0, 46, 160, 0, 10, 42, 180, 0, 49, 167, 0, 16, 42, 180, 0, 9, 27, 42, 180, 0, 46]
abbrev dktX4_termAt_0 : List UInt8 := dkwX4_termAt_0 ++ dktX4_termAt_1
theorem dksX4_termAt_0 : cX4_termAt.data.toList.drop 0 = dktX4_termAt_0 := by decide +kernel
theorem dksX4_termAt_1 : cX4_termAt.data.toList.drop 24 = dktX4_termAt_1 := dk_seg dksX4_termAt_0 24 rfl rfl
theorem dX4_termAt_0 : decode cX4_termAt 0 = .ok (.iload_n 1, 1) := dk_27 (dk_at dksX4_termAt_0 0 rfl rfl)
theorem dX4_termAt_1 : decode cX4_termAt 1 = .ok (.aload_n 0, 1) := dk_42 (dk_at dksX4_termAt_0 1 rfl rfl)
theorem dX4_termAt_2 : decode cX4_termAt 2 = .ok (.getfield 46, 3) := dk_180 0 46 (dk_at dksX4_termAt_0 2 rfl rfl)
theorem dX4_termAt_5 : decode cX4_termAt 5 = .ok (.if_icmp .ne 10, 3) := dk_160 0 10 (dk_at dksX4_termAt_0 5 rfl rfl)
theorem dX4_termAt_8 : decode cX4_termAt 8 = .ok (.aload_n 0, 1) := dk_42 (dk_at dksX4_termAt_0 8 rfl rfl)
theorem dX4_termAt_9 : decode cX4_termAt 9 = .ok (.getfield 49, 3) := dk_180 0 49 (dk_at dksX4_termAt_0 9 rfl rfl)
theorem dX4_termAt_12 : decode cX4_termAt 12 = .ok (.goto 16, 3) := dk_167 0 16 (dk_at dksX4_termAt_0 12 rfl rfl)
theorem dX4_termAt_15 : decode cX4_termAt 15 = .ok (.aload_n 0, 1) := dk_42 (dk_at dksX4_termAt_0 15 rfl rfl)
theorem dX4_termAt_16 : decode cX4_termAt 16 = .ok (.getfield 9, 3) := dk_180 0 9 (dk_at dksX4_termAt_0 16 rfl rfl)
theorem dX4_termAt_19 : decode cX4_termAt 19 = .ok (.iload_n 1, 1) := dk_27 (dk_at dksX4_termAt_0 19 rfl rfl)
theorem dX4_termAt_20 : decode cX4_termAt 20 = .ok (.aload_n 0, 1) := dk_42 (dk_at dksX4_termAt_0 20 rfl rfl)
theorem dX4_termAt_21 : decode cX4_termAt 21 = .ok (.getfield 46, 3) := dk_180 0 46 (dk_at dksX4_termAt_0 21 rfl rfl)
theorem dX4_termAt_24 : decode cX4_termAt 24 = .ok (.isub, 1) := dk_100 (dk_at dksX4_termAt_1 0 rfl rfl)
theorem dX4_termAt_25 : decode cX4_termAt 25 = .ok (.iconst 1, 1) := dk_4 (dk_at dksX4_termAt_1 1 rfl rfl)
theorem dX4_termAt_26 : decode cX4_termAt 26 = .ok (.isub, 1) := dk_100 (dk_at dksX4_termAt_1 2 rfl rfl)
theorem dX4_termAt_27 : decode cX4_termAt 27 = .ok (.iaload, 1) := dk_46 (dk_at dksX4_termAt_1 3 rfl rfl)
theorem dX4_termAt_28 : decode cX4_termAt 28 = .ok (.ireturn, 1) := dk_172 (dk_at dksX4_termAt_1 4 rfl rfl)
abbrev cX4_goes : ByteArray := prog_8_method_18_code
def yX4_goes : MethodName := ⟨RX4, "goes", "(I)V"⟩
def dkwX4_goes_3 : List UInt8 := [167, 255, 189, 42, 89, 180, 0, 58, 27, 100, 181, 0, 58, 177]
abbrev dktX4_goes_3 : List UInt8 := dkwX4_goes_3 ++ []
def dkwX4_goes_2 : List UInt8 := [180, 0, 18, 28, 46, 79, 42, 180, 0, 21, 28, 27, 100, 42, 180, 0, 21, 28, 46, 79, 132, 2, 1]
abbrev dktX4_goes_2 : List UInt8 := dkwX4_goes_2 ++ dktX4_goes_3
def dkwX4_goes_1 : List UInt8 := [42, 180, 0, 15, 28, 27, 100, 42, 180, 0, 15, 28, 46, 79, 42, 180, 0, 18, 28, 27, 100, 42]
abbrev dktX4_goes_1 : List UInt8 := dkwX4_goes_1 ++ dktX4_goes_2
def dkwX4_goes_0 : List UInt8 := [27, 61, 28, 42, 180, 0, 58, 162, 0, 65, 42, 180, 0, 9, 28, 27, 100, 42, 180, 0, 9, 28, 46, 79]
abbrev dktX4_goes_0 : List UInt8 := dkwX4_goes_0 ++ dktX4_goes_1
theorem dksX4_goes_0 : cX4_goes.data.toList.drop 0 = dktX4_goes_0 := by decide +kernel
theorem dksX4_goes_1 : cX4_goes.data.toList.drop 24 = dktX4_goes_1 := dk_seg dksX4_goes_0 24 rfl rfl
theorem dksX4_goes_2 : cX4_goes.data.toList.drop 46 = dktX4_goes_2 := dk_seg dksX4_goes_1 22 rfl rfl
theorem dksX4_goes_3 : cX4_goes.data.toList.drop 69 = dktX4_goes_3 := dk_seg dksX4_goes_2 23 rfl rfl
theorem dX4_goes_0 : decode cX4_goes 0 = .ok (.iload_n 1, 1) := dk_27 (dk_at dksX4_goes_0 0 rfl rfl)
theorem dX4_goes_1 : decode cX4_goes 1 = .ok (.istore_n 2, 1) := dk_61 (dk_at dksX4_goes_0 1 rfl rfl)
theorem dX4_goes_2 : decode cX4_goes 2 = .ok (.iload_n 2, 1) := dk_28 (dk_at dksX4_goes_0 2 rfl rfl)
theorem dX4_goes_3 : decode cX4_goes 3 = .ok (.aload_n 0, 1) := dk_42 (dk_at dksX4_goes_0 3 rfl rfl)
theorem dX4_goes_4 : decode cX4_goes 4 = .ok (.getfield 58, 3) := dk_180 0 58 (dk_at dksX4_goes_0 4 rfl rfl)
theorem dX4_goes_7 : decode cX4_goes 7 = .ok (.if_icmp .ge 65, 3) := dk_162 0 65 (dk_at dksX4_goes_0 7 rfl rfl)
theorem dX4_goes_10 : decode cX4_goes 10 = .ok (.aload_n 0, 1) := dk_42 (dk_at dksX4_goes_0 10 rfl rfl)
theorem dX4_goes_11 : decode cX4_goes 11 = .ok (.getfield 9, 3) := dk_180 0 9 (dk_at dksX4_goes_0 11 rfl rfl)
theorem dX4_goes_14 : decode cX4_goes 14 = .ok (.iload_n 2, 1) := dk_28 (dk_at dksX4_goes_0 14 rfl rfl)
theorem dX4_goes_15 : decode cX4_goes 15 = .ok (.iload_n 1, 1) := dk_27 (dk_at dksX4_goes_0 15 rfl rfl)
theorem dX4_goes_16 : decode cX4_goes 16 = .ok (.isub, 1) := dk_100 (dk_at dksX4_goes_0 16 rfl rfl)
theorem dX4_goes_17 : decode cX4_goes 17 = .ok (.aload_n 0, 1) := dk_42 (dk_at dksX4_goes_0 17 rfl rfl)
theorem dX4_goes_18 : decode cX4_goes 18 = .ok (.getfield 9, 3) := dk_180 0 9 (dk_at dksX4_goes_0 18 rfl rfl)
theorem dX4_goes_21 : decode cX4_goes 21 = .ok (.iload_n 2, 1) := dk_28 (dk_at dksX4_goes_0 21 rfl rfl)
theorem dX4_goes_22 : decode cX4_goes 22 = .ok (.iaload, 1) := dk_46 (dk_at dksX4_goes_0 22 rfl rfl)
theorem dX4_goes_23 : decode cX4_goes 23 = .ok (.iastore, 1) := dk_79 (dk_at dksX4_goes_0 23 rfl rfl)
theorem dX4_goes_24 : decode cX4_goes 24 = .ok (.aload_n 0, 1) := dk_42 (dk_at dksX4_goes_1 0 rfl rfl)
theorem dX4_goes_25 : decode cX4_goes 25 = .ok (.getfield 15, 3) := dk_180 0 15 (dk_at dksX4_goes_1 1 rfl rfl)
theorem dX4_goes_28 : decode cX4_goes 28 = .ok (.iload_n 2, 1) := dk_28 (dk_at dksX4_goes_1 4 rfl rfl)
theorem dX4_goes_29 : decode cX4_goes 29 = .ok (.iload_n 1, 1) := dk_27 (dk_at dksX4_goes_1 5 rfl rfl)
theorem dX4_goes_30 : decode cX4_goes 30 = .ok (.isub, 1) := dk_100 (dk_at dksX4_goes_1 6 rfl rfl)
theorem dX4_goes_31 : decode cX4_goes 31 = .ok (.aload_n 0, 1) := dk_42 (dk_at dksX4_goes_1 7 rfl rfl)
theorem dX4_goes_32 : decode cX4_goes 32 = .ok (.getfield 15, 3) := dk_180 0 15 (dk_at dksX4_goes_1 8 rfl rfl)
theorem dX4_goes_35 : decode cX4_goes 35 = .ok (.iload_n 2, 1) := dk_28 (dk_at dksX4_goes_1 11 rfl rfl)
theorem dX4_goes_36 : decode cX4_goes 36 = .ok (.iaload, 1) := dk_46 (dk_at dksX4_goes_1 12 rfl rfl)
theorem dX4_goes_37 : decode cX4_goes 37 = .ok (.iastore, 1) := dk_79 (dk_at dksX4_goes_1 13 rfl rfl)
theorem dX4_goes_38 : decode cX4_goes 38 = .ok (.aload_n 0, 1) := dk_42 (dk_at dksX4_goes_1 14 rfl rfl)
theorem dX4_goes_39 : decode cX4_goes 39 = .ok (.getfield 18, 3) := dk_180 0 18 (dk_at dksX4_goes_1 15 rfl rfl)
theorem dX4_goes_42 : decode cX4_goes 42 = .ok (.iload_n 2, 1) := dk_28 (dk_at dksX4_goes_1 18 rfl rfl)
theorem dX4_goes_43 : decode cX4_goes 43 = .ok (.iload_n 1, 1) := dk_27 (dk_at dksX4_goes_1 19 rfl rfl)
theorem dX4_goes_44 : decode cX4_goes 44 = .ok (.isub, 1) := dk_100 (dk_at dksX4_goes_1 20 rfl rfl)
theorem dX4_goes_45 : decode cX4_goes 45 = .ok (.aload_n 0, 1) := dk_42 (dk_at dksX4_goes_1 21 rfl rfl)
theorem dX4_goes_46 : decode cX4_goes 46 = .ok (.getfield 18, 3) := dk_180 0 18 (dk_at dksX4_goes_2 0 rfl rfl)
theorem dX4_goes_49 : decode cX4_goes 49 = .ok (.iload_n 2, 1) := dk_28 (dk_at dksX4_goes_2 3 rfl rfl)
theorem dX4_goes_50 : decode cX4_goes 50 = .ok (.iaload, 1) := dk_46 (dk_at dksX4_goes_2 4 rfl rfl)
theorem dX4_goes_51 : decode cX4_goes 51 = .ok (.iastore, 1) := dk_79 (dk_at dksX4_goes_2 5 rfl rfl)
theorem dX4_goes_52 : decode cX4_goes 52 = .ok (.aload_n 0, 1) := dk_42 (dk_at dksX4_goes_2 6 rfl rfl)
theorem dX4_goes_53 : decode cX4_goes 53 = .ok (.getfield 21, 3) := dk_180 0 21 (dk_at dksX4_goes_2 7 rfl rfl)
theorem dX4_goes_56 : decode cX4_goes 56 = .ok (.iload_n 2, 1) := dk_28 (dk_at dksX4_goes_2 10 rfl rfl)
theorem dX4_goes_57 : decode cX4_goes 57 = .ok (.iload_n 1, 1) := dk_27 (dk_at dksX4_goes_2 11 rfl rfl)
theorem dX4_goes_58 : decode cX4_goes 58 = .ok (.isub, 1) := dk_100 (dk_at dksX4_goes_2 12 rfl rfl)
theorem dX4_goes_59 : decode cX4_goes 59 = .ok (.aload_n 0, 1) := dk_42 (dk_at dksX4_goes_2 13 rfl rfl)
theorem dX4_goes_60 : decode cX4_goes 60 = .ok (.getfield 21, 3) := dk_180 0 21 (dk_at dksX4_goes_2 14 rfl rfl)
theorem dX4_goes_63 : decode cX4_goes 63 = .ok (.iload_n 2, 1) := dk_28 (dk_at dksX4_goes_2 17 rfl rfl)
theorem dX4_goes_64 : decode cX4_goes 64 = .ok (.iaload, 1) := dk_46 (dk_at dksX4_goes_2 18 rfl rfl)
theorem dX4_goes_65 : decode cX4_goes 65 = .ok (.iastore, 1) := dk_79 (dk_at dksX4_goes_2 19 rfl rfl)
theorem dX4_goes_66 : decode cX4_goes 66 = .ok (.iinc 2 1, 3) := dk_132 2 1 (dk_at dksX4_goes_2 20 rfl rfl)
theorem dX4_goes_69 : decode cX4_goes 69 = .ok (.goto (-67), 3) := dk_167 255 189 (dk_at dksX4_goes_3 0 rfl rfl)
theorem dX4_goes_72 : decode cX4_goes 72 = .ok (.aload_n 0, 1) := dk_42 (dk_at dksX4_goes_3 3 rfl rfl)
theorem dX4_goes_73 : decode cX4_goes 73 = .ok (.dup, 1) := dk_89 (dk_at dksX4_goes_3 4 rfl rfl)
theorem dX4_goes_74 : decode cX4_goes 74 = .ok (.getfield 58, 3) := dk_180 0 58 (dk_at dksX4_goes_3 5 rfl rfl)
theorem dX4_goes_77 : decode cX4_goes 77 = .ok (.iload_n 1, 1) := dk_27 (dk_at dksX4_goes_3 8 rfl rfl)
theorem dX4_goes_78 : decode cX4_goes 78 = .ok (.isub, 1) := dk_100 (dk_at dksX4_goes_3 9 rfl rfl)
theorem dX4_goes_79 : decode cX4_goes 79 = .ok (.putfield 58, 3) := dk_181 0 58 (dk_at dksX4_goes_3 10 rfl rfl)
theorem dX4_goes_82 : decode cX4_goes 82 = .ok (.return_, 1) := dk_177 (dk_at dksX4_goes_3 13 rfl rfl)
abbrev cX4_last : ByteArray := prog_8_method_5_code
def yX4_last : MethodName := ⟨RX4, "last", "()I"⟩
def dkwX4_last_0 : List UInt8 := [42, 180, 0, 46, 42, 180, 0, 58, 96, 172]
abbrev dktX4_last_0 : List UInt8 := dkwX4_last_0 ++ []
theorem dksX4_last_0 : cX4_last.data.toList.drop 0 = dktX4_last_0 := by decide +kernel
theorem dX4_last_0 : decode cX4_last 0 = .ok (.aload_n 0, 1) := dk_42 (dk_at dksX4_last_0 0 rfl rfl)
theorem dX4_last_1 : decode cX4_last 1 = .ok (.getfield 46, 3) := dk_180 0 46 (dk_at dksX4_last_0 1 rfl rfl)
theorem dX4_last_4 : decode cX4_last 4 = .ok (.aload_n 0, 1) := dk_42 (dk_at dksX4_last_0 4 rfl rfl)
theorem dX4_last_5 : decode cX4_last 5 = .ok (.getfield 58, 3) := dk_180 0 58 (dk_at dksX4_last_0 5 rfl rfl)
theorem dX4_last_8 : decode cX4_last 8 = .ok (.iadd, 1) := dk_96 (dk_at dksX4_last_0 8 rfl rfl)
theorem dX4_last_9 : decode cX4_last 9 = .ok (.ireturn, 1) := dk_172 (dk_at dksX4_last_0 9 rfl rfl)
abbrev cX4_lays : ByteArray := prog_8_method_20_code
def yX4_lays : MethodName := ⟨RX4, "lays", "(IIII)Z"⟩
def dkwX4_lays_4 : List UInt8 := [181, 0, 58, 4, 172]
abbrev dktX4_lays_4 : List UInt8 := dkwX4_lays_4 ++ []
def dkwX4_lays_3 : List UInt8 := [180, 0, 58, 29, 79, 42, 180, 0, 21, 42, 180, 0, 58, 21, 4, 79, 42, 89, 180, 0, 58, 4, 96]
abbrev dktX4_lays_3 : List UInt8 := dkwX4_lays_3 ++ dktX4_lays_4
def dkwX4_lays_2 : List UInt8 := [180, 0, 9, 42, 180, 0, 58, 27, 79, 42, 180, 0, 15, 42, 180, 0, 58, 28, 79, 42, 180, 0, 18, 42]
abbrev dktX4_lays_2 : List UInt8 := dkwX4_lays_2 ++ dktX4_lays_3
def dkwX4_lays_1 : List UInt8 := [42, 180, 0, 58, 16, 48, 159, 0, 13, 42, 182, 0, 89, 17, 3, 231, 160, 0, 5, 3, 172, 42]
abbrev dktX4_lays_1 : List UInt8 := dkwX4_lays_1 ++ dktX4_lays_2
def dkwX4_lays_0 : List UInt8 := [42, 180, 0, 58, 16, 48, 160, 0, 18, 42, 180, 0, 64, 42, 180, 0, 46, 164, 0, 7, 42, 182, 0, 128]
abbrev dktX4_lays_0 : List UInt8 := dkwX4_lays_0 ++ dktX4_lays_1
theorem dksX4_lays_0 : cX4_lays.data.toList.drop 0 = dktX4_lays_0 := by decide +kernel
theorem dksX4_lays_1 : cX4_lays.data.toList.drop 24 = dktX4_lays_1 := dk_seg dksX4_lays_0 24 rfl rfl
theorem dksX4_lays_2 : cX4_lays.data.toList.drop 46 = dktX4_lays_2 := dk_seg dksX4_lays_1 22 rfl rfl
theorem dksX4_lays_3 : cX4_lays.data.toList.drop 70 = dktX4_lays_3 := dk_seg dksX4_lays_2 24 rfl rfl
theorem dksX4_lays_4 : cX4_lays.data.toList.drop 93 = dktX4_lays_4 := dk_seg dksX4_lays_3 23 rfl rfl
theorem dX4_lays_0 : decode cX4_lays 0 = .ok (.aload_n 0, 1) := dk_42 (dk_at dksX4_lays_0 0 rfl rfl)
theorem dX4_lays_1 : decode cX4_lays 1 = .ok (.getfield 58, 3) := dk_180 0 58 (dk_at dksX4_lays_0 1 rfl rfl)
theorem dX4_lays_4 : decode cX4_lays 4 = .ok (.bipush 48, 2) := dk_16 48 (dk_at dksX4_lays_0 4 rfl rfl)
theorem dX4_lays_6 : decode cX4_lays 6 = .ok (.if_icmp .ne 18, 3) := dk_160 0 18 (dk_at dksX4_lays_0 6 rfl rfl)
theorem dX4_lays_9 : decode cX4_lays 9 = .ok (.aload_n 0, 1) := dk_42 (dk_at dksX4_lays_0 9 rfl rfl)
theorem dX4_lays_10 : decode cX4_lays 10 = .ok (.getfield 64, 3) := dk_180 0 64 (dk_at dksX4_lays_0 10 rfl rfl)
theorem dX4_lays_13 : decode cX4_lays 13 = .ok (.aload_n 0, 1) := dk_42 (dk_at dksX4_lays_0 13 rfl rfl)
theorem dX4_lays_14 : decode cX4_lays 14 = .ok (.getfield 46, 3) := dk_180 0 46 (dk_at dksX4_lays_0 14 rfl rfl)
theorem dX4_lays_17 : decode cX4_lays 17 = .ok (.if_icmp .le 7, 3) := dk_164 0 7 (dk_at dksX4_lays_0 17 rfl rfl)
theorem dX4_lays_20 : decode cX4_lays 20 = .ok (.aload_n 0, 1) := dk_42 (dk_at dksX4_lays_0 20 rfl rfl)
theorem dX4_lays_21 : decode cX4_lays 21 = .ok (.invokevirtual 128, 3) := dk_182 0 128 (dk_at dksX4_lays_0 21 rfl rfl)
theorem dX4_lays_24 : decode cX4_lays 24 = .ok (.aload_n 0, 1) := dk_42 (dk_at dksX4_lays_1 0 rfl rfl)
theorem dX4_lays_25 : decode cX4_lays 25 = .ok (.getfield 58, 3) := dk_180 0 58 (dk_at dksX4_lays_1 1 rfl rfl)
theorem dX4_lays_28 : decode cX4_lays 28 = .ok (.bipush 48, 2) := dk_16 48 (dk_at dksX4_lays_1 4 rfl rfl)
theorem dX4_lays_30 : decode cX4_lays 30 = .ok (.if_icmp .eq 13, 3) := dk_159 0 13 (dk_at dksX4_lays_1 6 rfl rfl)
theorem dX4_lays_33 : decode cX4_lays 33 = .ok (.aload_n 0, 1) := dk_42 (dk_at dksX4_lays_1 9 rfl rfl)
theorem dX4_lays_34 : decode cX4_lays 34 = .ok (.invokevirtual 89, 3) := dk_182 0 89 (dk_at dksX4_lays_1 10 rfl rfl)
theorem dX4_lays_37 : decode cX4_lays 37 = .ok (.sipush 999, 3) := dk_17 3 231 (dk_at dksX4_lays_1 13 rfl rfl)
theorem dX4_lays_40 : decode cX4_lays 40 = .ok (.if_icmp .ne 5, 3) := dk_160 0 5 (dk_at dksX4_lays_1 16 rfl rfl)
theorem dX4_lays_43 : decode cX4_lays 43 = .ok (.iconst 0, 1) := dk_3 (dk_at dksX4_lays_1 19 rfl rfl)
theorem dX4_lays_44 : decode cX4_lays 44 = .ok (.ireturn, 1) := dk_172 (dk_at dksX4_lays_1 20 rfl rfl)
theorem dX4_lays_45 : decode cX4_lays 45 = .ok (.aload_n 0, 1) := dk_42 (dk_at dksX4_lays_1 21 rfl rfl)
theorem dX4_lays_46 : decode cX4_lays 46 = .ok (.getfield 9, 3) := dk_180 0 9 (dk_at dksX4_lays_2 0 rfl rfl)
theorem dX4_lays_49 : decode cX4_lays 49 = .ok (.aload_n 0, 1) := dk_42 (dk_at dksX4_lays_2 3 rfl rfl)
theorem dX4_lays_50 : decode cX4_lays 50 = .ok (.getfield 58, 3) := dk_180 0 58 (dk_at dksX4_lays_2 4 rfl rfl)
theorem dX4_lays_53 : decode cX4_lays 53 = .ok (.iload_n 1, 1) := dk_27 (dk_at dksX4_lays_2 7 rfl rfl)
theorem dX4_lays_54 : decode cX4_lays 54 = .ok (.iastore, 1) := dk_79 (dk_at dksX4_lays_2 8 rfl rfl)
theorem dX4_lays_55 : decode cX4_lays 55 = .ok (.aload_n 0, 1) := dk_42 (dk_at dksX4_lays_2 9 rfl rfl)
theorem dX4_lays_56 : decode cX4_lays 56 = .ok (.getfield 15, 3) := dk_180 0 15 (dk_at dksX4_lays_2 10 rfl rfl)
theorem dX4_lays_59 : decode cX4_lays 59 = .ok (.aload_n 0, 1) := dk_42 (dk_at dksX4_lays_2 13 rfl rfl)
theorem dX4_lays_60 : decode cX4_lays 60 = .ok (.getfield 58, 3) := dk_180 0 58 (dk_at dksX4_lays_2 14 rfl rfl)
theorem dX4_lays_63 : decode cX4_lays 63 = .ok (.iload_n 2, 1) := dk_28 (dk_at dksX4_lays_2 17 rfl rfl)
theorem dX4_lays_64 : decode cX4_lays 64 = .ok (.iastore, 1) := dk_79 (dk_at dksX4_lays_2 18 rfl rfl)
theorem dX4_lays_65 : decode cX4_lays 65 = .ok (.aload_n 0, 1) := dk_42 (dk_at dksX4_lays_2 19 rfl rfl)
theorem dX4_lays_66 : decode cX4_lays 66 = .ok (.getfield 18, 3) := dk_180 0 18 (dk_at dksX4_lays_2 20 rfl rfl)
theorem dX4_lays_69 : decode cX4_lays 69 = .ok (.aload_n 0, 1) := dk_42 (dk_at dksX4_lays_2 23 rfl rfl)
theorem dX4_lays_70 : decode cX4_lays 70 = .ok (.getfield 58, 3) := dk_180 0 58 (dk_at dksX4_lays_3 0 rfl rfl)
theorem dX4_lays_73 : decode cX4_lays 73 = .ok (.iload_n 3, 1) := dk_29 (dk_at dksX4_lays_3 3 rfl rfl)
theorem dX4_lays_74 : decode cX4_lays 74 = .ok (.iastore, 1) := dk_79 (dk_at dksX4_lays_3 4 rfl rfl)
theorem dX4_lays_75 : decode cX4_lays 75 = .ok (.aload_n 0, 1) := dk_42 (dk_at dksX4_lays_3 5 rfl rfl)
theorem dX4_lays_76 : decode cX4_lays 76 = .ok (.getfield 21, 3) := dk_180 0 21 (dk_at dksX4_lays_3 6 rfl rfl)
theorem dX4_lays_79 : decode cX4_lays 79 = .ok (.aload_n 0, 1) := dk_42 (dk_at dksX4_lays_3 9 rfl rfl)
theorem dX4_lays_80 : decode cX4_lays 80 = .ok (.getfield 58, 3) := dk_180 0 58 (dk_at dksX4_lays_3 10 rfl rfl)
theorem dX4_lays_83 : decode cX4_lays 83 = .ok (.iload 4, 2) := dk_21 4 (dk_at dksX4_lays_3 13 rfl rfl)
theorem dX4_lays_85 : decode cX4_lays 85 = .ok (.iastore, 1) := dk_79 (dk_at dksX4_lays_3 15 rfl rfl)
theorem dX4_lays_86 : decode cX4_lays 86 = .ok (.aload_n 0, 1) := dk_42 (dk_at dksX4_lays_3 16 rfl rfl)
theorem dX4_lays_87 : decode cX4_lays 87 = .ok (.dup, 1) := dk_89 (dk_at dksX4_lays_3 17 rfl rfl)
theorem dX4_lays_88 : decode cX4_lays 88 = .ok (.getfield 58, 3) := dk_180 0 58 (dk_at dksX4_lays_3 18 rfl rfl)
theorem dX4_lays_91 : decode cX4_lays 91 = .ok (.iconst 1, 1) := dk_4 (dk_at dksX4_lays_3 21 rfl rfl)
theorem dX4_lays_92 : decode cX4_lays 92 = .ok (.iadd, 1) := dk_96 (dk_at dksX4_lays_3 22 rfl rfl)
theorem dX4_lays_93 : decode cX4_lays 93 = .ok (.putfield 58, 3) := dk_181 0 58 (dk_at dksX4_lays_4 0 rfl rfl)
theorem dX4_lays_96 : decode cX4_lays 96 = .ok (.iconst 1, 1) := dk_4 (dk_at dksX4_lays_4 3 rfl rfl)
theorem dX4_lays_97 : decode cX4_lays 97 = .ok (.ireturn, 1) := dk_172 (dk_at dksX4_lays_4 4 rfl rfl)
abbrev cX4_members : ByteArray := prog_8_method_14_code
def yX4_members : MethodName := ⟨RX4, "members", "()I"⟩
def dkwX4_members_0 : List UInt8 := [42, 182, 0, 106, 42, 182, 0, 109, 128, 172]
abbrev dktX4_members_0 : List UInt8 := dkwX4_members_0 ++ []
theorem dksX4_members_0 : cX4_members.data.toList.drop 0 = dktX4_members_0 := by decide +kernel
theorem dX4_members_0 : decode cX4_members 0 = .ok (.aload_n 0, 1) := dk_42 (dk_at dksX4_members_0 0 rfl rfl)
theorem dX4_members_1 : decode cX4_members 1 = .ok (.invokevirtual 106, 3) := dk_182 0 106 (dk_at dksX4_members_0 1 rfl rfl)
theorem dX4_members_4 : decode cX4_members 4 = .ok (.aload_n 0, 1) := dk_42 (dk_at dksX4_members_0 4 rfl rfl)
theorem dX4_members_5 : decode cX4_members 5 = .ok (.invokevirtual 109, 3) := dk_182 0 109 (dk_at dksX4_members_0 5 rfl rfl)
theorem dX4_members_8 : decode cX4_members 8 = .ok (.ior, 1) := dk_128 (dk_at dksX4_members_0 8 rfl rfl)
theorem dX4_members_9 : decode cX4_members 9 = .ok (.ireturn, 1) := dk_172 (dk_at dksX4_members_0 9 rfl rfl)
abbrev cX4_olds : ByteArray := prog_8_method_12_code
def yX4_olds : MethodName := ⟨RX4, "olds", "()I"⟩
def dkwX4_olds_0 : List UInt8 := [42, 42, 42, 182, 0, 89, 182, 0, 97, 182, 0, 100, 172]
abbrev dktX4_olds_0 : List UInt8 := dkwX4_olds_0 ++ []
theorem dksX4_olds_0 : cX4_olds.data.toList.drop 0 = dktX4_olds_0 := by decide +kernel
theorem dX4_olds_0 : decode cX4_olds 0 = .ok (.aload_n 0, 1) := dk_42 (dk_at dksX4_olds_0 0 rfl rfl)
theorem dX4_olds_1 : decode cX4_olds 1 = .ok (.aload_n 0, 1) := dk_42 (dk_at dksX4_olds_0 1 rfl rfl)
theorem dX4_olds_2 : decode cX4_olds 2 = .ok (.aload_n 0, 1) := dk_42 (dk_at dksX4_olds_0 2 rfl rfl)
theorem dX4_olds_3 : decode cX4_olds 3 = .ok (.invokevirtual 89, 3) := dk_182 0 89 (dk_at dksX4_olds_0 3 rfl rfl)
theorem dX4_olds_6 : decode cX4_olds 6 = .ok (.invokevirtual 97, 3) := dk_182 0 97 (dk_at dksX4_olds_0 6 rfl rfl)
theorem dX4_olds_9 : decode cX4_olds 9 = .ok (.invokevirtual 100, 3) := dk_182 0 100 (dk_at dksX4_olds_0 9 rfl rfl)
theorem dX4_olds_12 : decode cX4_olds 12 = .ok (.ireturn, 1) := dk_172 (dk_at dksX4_olds_0 12 rfl rfl)
abbrev cX4_news : ByteArray := prog_8_method_13_code
def yX4_news : MethodName := ⟨RX4, "news", "()I"⟩
def dkwX4_news_0 : List UInt8 := [42, 42, 42, 182, 0, 89, 182, 0, 97, 182, 0, 103, 172]
abbrev dktX4_news_0 : List UInt8 := dkwX4_news_0 ++ []
theorem dksX4_news_0 : cX4_news.data.toList.drop 0 = dktX4_news_0 := by decide +kernel
theorem dX4_news_0 : decode cX4_news 0 = .ok (.aload_n 0, 1) := dk_42 (dk_at dksX4_news_0 0 rfl rfl)
theorem dX4_news_1 : decode cX4_news 1 = .ok (.aload_n 0, 1) := dk_42 (dk_at dksX4_news_0 1 rfl rfl)
theorem dX4_news_2 : decode cX4_news 2 = .ok (.aload_n 0, 1) := dk_42 (dk_at dksX4_news_0 2 rfl rfl)
theorem dX4_news_3 : decode cX4_news 3 = .ok (.invokevirtual 89, 3) := dk_182 0 89 (dk_at dksX4_news_0 3 rfl rfl)
theorem dX4_news_6 : decode cX4_news 6 = .ok (.invokevirtual 97, 3) := dk_182 0 97 (dk_at dksX4_news_0 6 rfl rfl)
theorem dX4_news_9 : decode cX4_news 9 = .ok (.invokevirtual 103, 3) := dk_182 0 103 (dk_at dksX4_news_0 9 rfl rfl)
theorem dX4_news_12 : decode cX4_news 12 = .ok (.ireturn, 1) := dk_172 (dk_at dksX4_news_0 12 rfl rfl)
abbrev cX4_isMajority : ByteArray := prog_8_method_16_code
def yX4_isMajority : MethodName := ⟨RX4, "isMajority", "(I)Z"⟩
def dkwX4_isMajority_1 : List UInt8 := [184, 0, 117, 153, 0, 7, 4, 167, 0, 4, 3, 172]
abbrev dktX4_isMajority_1 : List UInt8 := dkwX4_isMajority_1 ++ []
def dkwX4_isMajority_0 : List UInt8 := [27, 42, 182, 0, 106, 184, 0, 117, 153, 0, 25, 42, 182, 0, 109, 153, 0, 14, 27, 42, 182, 0, 109]
abbrev dktX4_isMajority_0 : List UInt8 := dkwX4_isMajority_0 ++ dktX4_isMajority_1
theorem dksX4_isMajority_0 : cX4_isMajority.data.toList.drop 0 = dktX4_isMajority_0 := by decide +kernel
theorem dksX4_isMajority_1 : cX4_isMajority.data.toList.drop 23 = dktX4_isMajority_1 := dk_seg dksX4_isMajority_0 23 rfl rfl
theorem dX4_isMajority_0 : decode cX4_isMajority 0 = .ok (.iload_n 1, 1) := dk_27 (dk_at dksX4_isMajority_0 0 rfl rfl)
theorem dX4_isMajority_1 : decode cX4_isMajority 1 = .ok (.aload_n 0, 1) := dk_42 (dk_at dksX4_isMajority_0 1 rfl rfl)
theorem dX4_isMajority_2 : decode cX4_isMajority 2 = .ok (.invokevirtual 106, 3) := dk_182 0 106 (dk_at dksX4_isMajority_0 2 rfl rfl)
theorem dX4_isMajority_5 : decode cX4_isMajority 5 = .ok (.invokestatic 117, 3) := dk_184 0 117 (dk_at dksX4_isMajority_0 5 rfl rfl)
theorem dX4_isMajority_8 : decode cX4_isMajority 8 = .ok (.ifCond .eq 25, 3) := dk_153 0 25 (dk_at dksX4_isMajority_0 8 rfl rfl)
theorem dX4_isMajority_11 : decode cX4_isMajority 11 = .ok (.aload_n 0, 1) := dk_42 (dk_at dksX4_isMajority_0 11 rfl rfl)
theorem dX4_isMajority_12 : decode cX4_isMajority 12 = .ok (.invokevirtual 109, 3) := dk_182 0 109 (dk_at dksX4_isMajority_0 12 rfl rfl)
theorem dX4_isMajority_15 : decode cX4_isMajority 15 = .ok (.ifCond .eq 14, 3) := dk_153 0 14 (dk_at dksX4_isMajority_0 15 rfl rfl)
theorem dX4_isMajority_18 : decode cX4_isMajority 18 = .ok (.iload_n 1, 1) := dk_27 (dk_at dksX4_isMajority_0 18 rfl rfl)
theorem dX4_isMajority_19 : decode cX4_isMajority 19 = .ok (.aload_n 0, 1) := dk_42 (dk_at dksX4_isMajority_0 19 rfl rfl)
theorem dX4_isMajority_20 : decode cX4_isMajority 20 = .ok (.invokevirtual 109, 3) := dk_182 0 109 (dk_at dksX4_isMajority_0 20 rfl rfl)
theorem dX4_isMajority_23 : decode cX4_isMajority 23 = .ok (.invokestatic 117, 3) := dk_184 0 117 (dk_at dksX4_isMajority_1 0 rfl rfl)
theorem dX4_isMajority_26 : decode cX4_isMajority 26 = .ok (.ifCond .eq 7, 3) := dk_153 0 7 (dk_at dksX4_isMajority_1 3 rfl rfl)
theorem dX4_isMajority_29 : decode cX4_isMajority 29 = .ok (.iconst 1, 1) := dk_4 (dk_at dksX4_isMajority_1 6 rfl rfl)
theorem dX4_isMajority_30 : decode cX4_isMajority 30 = .ok (.goto 4, 3) := dk_167 0 4 (dk_at dksX4_isMajority_1 7 rfl rfl)
theorem dX4_isMajority_33 : decode cX4_isMajority 33 = .ok (.iconst 0, 1) := dk_3 (dk_at dksX4_isMajority_1 10 rfl rfl)
theorem dX4_isMajority_34 : decode cX4_isMajority 34 = .ok (.ireturn, 1) := dk_172 (dk_at dksX4_isMajority_1 11 rfl rfl)
abbrev cX4_isMore : ByteArray := prog_8_method_15_code
def yX4_isMore : MethodName := ⟨RX4, "isMore", "(II)Z"⟩
def dkwX4_isMore_0 : List UInt8 := [5, 26, 27, 126, 184, 0, 112, 104, 27, 184, 0, 112, 164, 0, 7, 4, 167, 0, 4, 3, 172]
abbrev dktX4_isMore_0 : List UInt8 := dkwX4_isMore_0 ++ []
theorem dksX4_isMore_0 : cX4_isMore.data.toList.drop 0 = dktX4_isMore_0 := by decide +kernel
theorem dX4_isMore_0 : decode cX4_isMore 0 = .ok (.iconst 2, 1) := dk_5 (dk_at dksX4_isMore_0 0 rfl rfl)
theorem dX4_isMore_1 : decode cX4_isMore 1 = .ok (.iload_n 0, 1) := dk_26 (dk_at dksX4_isMore_0 1 rfl rfl)
theorem dX4_isMore_2 : decode cX4_isMore 2 = .ok (.iload_n 1, 1) := dk_27 (dk_at dksX4_isMore_0 2 rfl rfl)
theorem dX4_isMore_3 : decode cX4_isMore 3 = .ok (.iand, 1) := dk_126 (dk_at dksX4_isMore_0 3 rfl rfl)
theorem dX4_isMore_4 : decode cX4_isMore 4 = .ok (.invokestatic 112, 3) := dk_184 0 112 (dk_at dksX4_isMore_0 4 rfl rfl)
theorem dX4_isMore_7 : decode cX4_isMore 7 = .ok (.imul, 1) := dk_104 (dk_at dksX4_isMore_0 7 rfl rfl)
theorem dX4_isMore_8 : decode cX4_isMore 8 = .ok (.iload_n 1, 1) := dk_27 (dk_at dksX4_isMore_0 8 rfl rfl)
theorem dX4_isMore_9 : decode cX4_isMore 9 = .ok (.invokestatic 112, 3) := dk_184 0 112 (dk_at dksX4_isMore_0 9 rfl rfl)
theorem dX4_isMore_12 : decode cX4_isMore 12 = .ok (.if_icmp .le 7, 3) := dk_164 0 7 (dk_at dksX4_isMore_0 12 rfl rfl)
theorem dX4_isMore_15 : decode cX4_isMore 15 = .ok (.iconst 1, 1) := dk_4 (dk_at dksX4_isMore_0 15 rfl rfl)
theorem dX4_isMore_16 : decode cX4_isMore 16 = .ok (.goto 4, 3) := dk_167 0 4 (dk_at dksX4_isMore_0 16 rfl rfl)
theorem dX4_isMore_19 : decode cX4_isMore 19 = .ok (.iconst 0, 1) := dk_3 (dk_at dksX4_isMore_0 19 rfl rfl)
theorem dX4_isMore_20 : decode cX4_isMore 20 = .ok (.ireturn, 1) := dk_172 (dk_at dksX4_isMore_0 20 rfl rfl)
abbrev cX4_isConfigHeld : ByteArray := prog_8_method_17_code
def yX4_isConfigHeld : MethodName := ⟨RX4, "isConfigHeld", "()Z"⟩
def dkwX4_isConfigHeld_0 : List UInt8 := [42, 42, 182, 0, 89, 182, 0, 97, 42, 180, 0, 64, 163, 0, 7, 4, 167, 0, 4, 3, 172]
abbrev dktX4_isConfigHeld_0 : List UInt8 := dkwX4_isConfigHeld_0 ++ []
theorem dksX4_isConfigHeld_0 : cX4_isConfigHeld.data.toList.drop 0 = dktX4_isConfigHeld_0 := by decide +kernel
theorem dX4_isConfigHeld_0 : decode cX4_isConfigHeld 0 = .ok (.aload_n 0, 1) := dk_42 (dk_at dksX4_isConfigHeld_0 0 rfl rfl)
theorem dX4_isConfigHeld_1 : decode cX4_isConfigHeld 1 = .ok (.aload_n 0, 1) := dk_42 (dk_at dksX4_isConfigHeld_0 1 rfl rfl)
theorem dX4_isConfigHeld_2 : decode cX4_isConfigHeld 2 = .ok (.invokevirtual 89, 3) := dk_182 0 89 (dk_at dksX4_isConfigHeld_0 2 rfl rfl)
theorem dX4_isConfigHeld_5 : decode cX4_isConfigHeld 5 = .ok (.invokevirtual 97, 3) := dk_182 0 97 (dk_at dksX4_isConfigHeld_0 5 rfl rfl)
theorem dX4_isConfigHeld_8 : decode cX4_isConfigHeld 8 = .ok (.aload_n 0, 1) := dk_42 (dk_at dksX4_isConfigHeld_0 8 rfl rfl)
theorem dX4_isConfigHeld_9 : decode cX4_isConfigHeld 9 = .ok (.getfield 64, 3) := dk_180 0 64 (dk_at dksX4_isConfigHeld_0 9 rfl rfl)
theorem dX4_isConfigHeld_12 : decode cX4_isConfigHeld 12 = .ok (.if_icmp .gt 7, 3) := dk_163 0 7 (dk_at dksX4_isConfigHeld_0 12 rfl rfl)
theorem dX4_isConfigHeld_15 : decode cX4_isConfigHeld 15 = .ok (.iconst 1, 1) := dk_4 (dk_at dksX4_isConfigHeld_0 15 rfl rfl)
theorem dX4_isConfigHeld_16 : decode cX4_isConfigHeld 16 = .ok (.goto 4, 3) := dk_167 0 4 (dk_at dksX4_isConfigHeld_0 16 rfl rfl)
theorem dX4_isConfigHeld_19 : decode cX4_isConfigHeld 19 = .ok (.iconst 0, 1) := dk_3 (dk_at dksX4_isConfigHeld_0 19 rfl rfl)
theorem dX4_isConfigHeld_20 : decode cX4_isConfigHeld 20 = .ok (.ireturn, 1) := dk_172 (dk_at dksX4_isConfigHeld_0 20 rfl rfl)
abbrev cX4_isNoLess : ByteArray := prog_8_method_21_code
def yX4_isNoLess : MethodName := ⟨RX4, "isNoLess", "(II)Z"⟩
def dkwX4_isNoLess_1 : List UInt8 := [28, 42, 182, 0, 89, 161, 0, 7, 4, 167, 0, 4, 3, 172]
abbrev dktX4_isNoLess_1 : List UInt8 := dkwX4_isNoLess_1 ++ []
def dkwX4_isNoLess_0 : List UInt8 := [27, 42, 42, 182, 0, 89, 182, 0, 121, 163, 0, 23, 27, 42, 42, 182, 0, 89, 182, 0, 121, 160, 0, 15]
abbrev dktX4_isNoLess_0 : List UInt8 := dkwX4_isNoLess_0 ++ dktX4_isNoLess_1
theorem dksX4_isNoLess_0 : cX4_isNoLess.data.toList.drop 0 = dktX4_isNoLess_0 := by decide +kernel
theorem dksX4_isNoLess_1 : cX4_isNoLess.data.toList.drop 24 = dktX4_isNoLess_1 := dk_seg dksX4_isNoLess_0 24 rfl rfl
theorem dX4_isNoLess_0 : decode cX4_isNoLess 0 = .ok (.iload_n 1, 1) := dk_27 (dk_at dksX4_isNoLess_0 0 rfl rfl)
theorem dX4_isNoLess_1 : decode cX4_isNoLess 1 = .ok (.aload_n 0, 1) := dk_42 (dk_at dksX4_isNoLess_0 1 rfl rfl)
theorem dX4_isNoLess_2 : decode cX4_isNoLess 2 = .ok (.aload_n 0, 1) := dk_42 (dk_at dksX4_isNoLess_0 2 rfl rfl)
theorem dX4_isNoLess_3 : decode cX4_isNoLess 3 = .ok (.invokevirtual 89, 3) := dk_182 0 89 (dk_at dksX4_isNoLess_0 3 rfl rfl)
theorem dX4_isNoLess_6 : decode cX4_isNoLess 6 = .ok (.invokevirtual 121, 3) := dk_182 0 121 (dk_at dksX4_isNoLess_0 6 rfl rfl)
theorem dX4_isNoLess_9 : decode cX4_isNoLess 9 = .ok (.if_icmp .gt 23, 3) := dk_163 0 23 (dk_at dksX4_isNoLess_0 9 rfl rfl)
theorem dX4_isNoLess_12 : decode cX4_isNoLess 12 = .ok (.iload_n 1, 1) := dk_27 (dk_at dksX4_isNoLess_0 12 rfl rfl)
theorem dX4_isNoLess_13 : decode cX4_isNoLess 13 = .ok (.aload_n 0, 1) := dk_42 (dk_at dksX4_isNoLess_0 13 rfl rfl)
theorem dX4_isNoLess_14 : decode cX4_isNoLess 14 = .ok (.aload_n 0, 1) := dk_42 (dk_at dksX4_isNoLess_0 14 rfl rfl)
theorem dX4_isNoLess_15 : decode cX4_isNoLess 15 = .ok (.invokevirtual 89, 3) := dk_182 0 89 (dk_at dksX4_isNoLess_0 15 rfl rfl)
theorem dX4_isNoLess_18 : decode cX4_isNoLess 18 = .ok (.invokevirtual 121, 3) := dk_182 0 121 (dk_at dksX4_isNoLess_0 18 rfl rfl)
theorem dX4_isNoLess_21 : decode cX4_isNoLess 21 = .ok (.if_icmp .ne 15, 3) := dk_160 0 15 (dk_at dksX4_isNoLess_0 21 rfl rfl)
theorem dX4_isNoLess_24 : decode cX4_isNoLess 24 = .ok (.iload_n 2, 1) := dk_28 (dk_at dksX4_isNoLess_1 0 rfl rfl)
theorem dX4_isNoLess_25 : decode cX4_isNoLess 25 = .ok (.aload_n 0, 1) := dk_42 (dk_at dksX4_isNoLess_1 1 rfl rfl)
theorem dX4_isNoLess_26 : decode cX4_isNoLess 26 = .ok (.invokevirtual 89, 3) := dk_182 0 89 (dk_at dksX4_isNoLess_1 2 rfl rfl)
theorem dX4_isNoLess_29 : decode cX4_isNoLess 29 = .ok (.if_icmp .lt 7, 3) := dk_161 0 7 (dk_at dksX4_isNoLess_1 5 rfl rfl)
theorem dX4_isNoLess_32 : decode cX4_isNoLess 32 = .ok (.iconst 1, 1) := dk_4 (dk_at dksX4_isNoLess_1 8 rfl rfl)
theorem dX4_isNoLess_33 : decode cX4_isNoLess 33 = .ok (.goto 4, 3) := dk_167 0 4 (dk_at dksX4_isNoLess_1 9 rfl rfl)
theorem dX4_isNoLess_36 : decode cX4_isNoLess 36 = .ok (.iconst 0, 1) := dk_3 (dk_at dksX4_isNoLess_1 12 rfl rfl)
theorem dX4_isNoLess_37 : decode cX4_isNoLess 37 = .ok (.ireturn, 1) := dk_172 (dk_at dksX4_isNoLess_1 13 rfl rfl)
abbrev cX4_firstOfTerm : ByteArray := prog_8_method_22_code
def yX4_firstOfTerm : MethodName := ⟨RX4, "firstOfTerm", "(I)I"⟩
def dkwX4_firstOfTerm_1 : List UInt8 := [160, 0, 9, 132, 2, 255, 167, 255, 228, 4, 28, 184, 0, 131, 172]
abbrev dktX4_firstOfTerm_1 : List UInt8 := dkwX4_firstOfTerm_1 ++ []
def dkwX4_firstOfTerm_0 : List UInt8 := [27, 61, 28, 4, 100, 42, 180, 0, 46, 164, 0, 24, 42, 28, 4, 100, 182, 0, 121, 42, 27, 182, 0, 121]
abbrev dktX4_firstOfTerm_0 : List UInt8 := dkwX4_firstOfTerm_0 ++ dktX4_firstOfTerm_1
theorem dksX4_firstOfTerm_0 : cX4_firstOfTerm.data.toList.drop 0 = dktX4_firstOfTerm_0 := by decide +kernel
theorem dksX4_firstOfTerm_1 : cX4_firstOfTerm.data.toList.drop 24 = dktX4_firstOfTerm_1 := dk_seg dksX4_firstOfTerm_0 24 rfl rfl
theorem dX4_firstOfTerm_0 : decode cX4_firstOfTerm 0 = .ok (.iload_n 1, 1) := dk_27 (dk_at dksX4_firstOfTerm_0 0 rfl rfl)
theorem dX4_firstOfTerm_1 : decode cX4_firstOfTerm 1 = .ok (.istore_n 2, 1) := dk_61 (dk_at dksX4_firstOfTerm_0 1 rfl rfl)
theorem dX4_firstOfTerm_2 : decode cX4_firstOfTerm 2 = .ok (.iload_n 2, 1) := dk_28 (dk_at dksX4_firstOfTerm_0 2 rfl rfl)
theorem dX4_firstOfTerm_3 : decode cX4_firstOfTerm 3 = .ok (.iconst 1, 1) := dk_4 (dk_at dksX4_firstOfTerm_0 3 rfl rfl)
theorem dX4_firstOfTerm_4 : decode cX4_firstOfTerm 4 = .ok (.isub, 1) := dk_100 (dk_at dksX4_firstOfTerm_0 4 rfl rfl)
theorem dX4_firstOfTerm_5 : decode cX4_firstOfTerm 5 = .ok (.aload_n 0, 1) := dk_42 (dk_at dksX4_firstOfTerm_0 5 rfl rfl)
theorem dX4_firstOfTerm_6 : decode cX4_firstOfTerm 6 = .ok (.getfield 46, 3) := dk_180 0 46 (dk_at dksX4_firstOfTerm_0 6 rfl rfl)
theorem dX4_firstOfTerm_9 : decode cX4_firstOfTerm 9 = .ok (.if_icmp .le 24, 3) := dk_164 0 24 (dk_at dksX4_firstOfTerm_0 9 rfl rfl)
theorem dX4_firstOfTerm_12 : decode cX4_firstOfTerm 12 = .ok (.aload_n 0, 1) := dk_42 (dk_at dksX4_firstOfTerm_0 12 rfl rfl)
theorem dX4_firstOfTerm_13 : decode cX4_firstOfTerm 13 = .ok (.iload_n 2, 1) := dk_28 (dk_at dksX4_firstOfTerm_0 13 rfl rfl)
theorem dX4_firstOfTerm_14 : decode cX4_firstOfTerm 14 = .ok (.iconst 1, 1) := dk_4 (dk_at dksX4_firstOfTerm_0 14 rfl rfl)
theorem dX4_firstOfTerm_15 : decode cX4_firstOfTerm 15 = .ok (.isub, 1) := dk_100 (dk_at dksX4_firstOfTerm_0 15 rfl rfl)
theorem dX4_firstOfTerm_16 : decode cX4_firstOfTerm 16 = .ok (.invokevirtual 121, 3) := dk_182 0 121 (dk_at dksX4_firstOfTerm_0 16 rfl rfl)
theorem dX4_firstOfTerm_19 : decode cX4_firstOfTerm 19 = .ok (.aload_n 0, 1) := dk_42 (dk_at dksX4_firstOfTerm_0 19 rfl rfl)
theorem dX4_firstOfTerm_20 : decode cX4_firstOfTerm 20 = .ok (.iload_n 1, 1) := dk_27 (dk_at dksX4_firstOfTerm_0 20 rfl rfl)
theorem dX4_firstOfTerm_21 : decode cX4_firstOfTerm 21 = .ok (.invokevirtual 121, 3) := dk_182 0 121 (dk_at dksX4_firstOfTerm_0 21 rfl rfl)
theorem dX4_firstOfTerm_24 : decode cX4_firstOfTerm 24 = .ok (.if_icmp .ne 9, 3) := dk_160 0 9 (dk_at dksX4_firstOfTerm_1 0 rfl rfl)
theorem dX4_firstOfTerm_27 : decode cX4_firstOfTerm 27 = .ok (.iinc 2 (-1), 3) := dk_132 2 255 (dk_at dksX4_firstOfTerm_1 3 rfl rfl)
theorem dX4_firstOfTerm_30 : decode cX4_firstOfTerm 30 = .ok (.goto (-28), 3) := dk_167 255 228 (dk_at dksX4_firstOfTerm_1 6 rfl rfl)
theorem dX4_firstOfTerm_33 : decode cX4_firstOfTerm 33 = .ok (.iconst 1, 1) := dk_4 (dk_at dksX4_firstOfTerm_1 9 rfl rfl)
theorem dX4_firstOfTerm_34 : decode cX4_firstOfTerm 34 = .ok (.iload_n 2, 1) := dk_28 (dk_at dksX4_firstOfTerm_1 10 rfl rfl)
theorem dX4_firstOfTerm_35 : decode cX4_firstOfTerm 35 = .ok (.invokestatic 131, 3) := dk_184 0 131 (dk_at dksX4_firstOfTerm_1 11 rfl rfl)
theorem dX4_firstOfTerm_38 : decode cX4_firstOfTerm 38 = .ok (.ireturn, 1) := dk_172 (dk_at dksX4_firstOfTerm_1 14 rfl rfl)
abbrev cX4_hasEntry : ByteArray := prog_8_method_6_code
def yX4_hasEntry : MethodName := ⟨RX4, "hasEntry", "(I)Z"⟩
def dkwX4_hasEntry_0 : List UInt8 := [27, 42, 180, 0, 46, 164, 0, 15, 27, 42, 182, 0, 89, 163, 0, 7, 4, 167, 0, 4, 3, 172]
abbrev dktX4_hasEntry_0 : List UInt8 := dkwX4_hasEntry_0 ++ []
theorem dksX4_hasEntry_0 : cX4_hasEntry.data.toList.drop 0 = dktX4_hasEntry_0 := by decide +kernel
theorem dX4_hasEntry_0 : decode cX4_hasEntry 0 = .ok (.iload_n 1, 1) := dk_27 (dk_at dksX4_hasEntry_0 0 rfl rfl)
theorem dX4_hasEntry_1 : decode cX4_hasEntry 1 = .ok (.aload_n 0, 1) := dk_42 (dk_at dksX4_hasEntry_0 1 rfl rfl)
theorem dX4_hasEntry_2 : decode cX4_hasEntry 2 = .ok (.getfield 46, 3) := dk_180 0 46 (dk_at dksX4_hasEntry_0 2 rfl rfl)
theorem dX4_hasEntry_5 : decode cX4_hasEntry 5 = .ok (.if_icmp .le 15, 3) := dk_164 0 15 (dk_at dksX4_hasEntry_0 5 rfl rfl)
theorem dX4_hasEntry_8 : decode cX4_hasEntry 8 = .ok (.iload_n 1, 1) := dk_27 (dk_at dksX4_hasEntry_0 8 rfl rfl)
theorem dX4_hasEntry_9 : decode cX4_hasEntry 9 = .ok (.aload_n 0, 1) := dk_42 (dk_at dksX4_hasEntry_0 9 rfl rfl)
theorem dX4_hasEntry_10 : decode cX4_hasEntry 10 = .ok (.invokevirtual 89, 3) := dk_182 0 89 (dk_at dksX4_hasEntry_0 10 rfl rfl)
theorem dX4_hasEntry_13 : decode cX4_hasEntry 13 = .ok (.if_icmp .gt 7, 3) := dk_163 0 7 (dk_at dksX4_hasEntry_0 13 rfl rfl)
theorem dX4_hasEntry_16 : decode cX4_hasEntry 16 = .ok (.iconst 1, 1) := dk_4 (dk_at dksX4_hasEntry_0 16 rfl rfl)
theorem dX4_hasEntry_17 : decode cX4_hasEntry 17 = .ok (.goto 4, 3) := dk_167 0 4 (dk_at dksX4_hasEntry_0 17 rfl rfl)
theorem dX4_hasEntry_20 : decode cX4_hasEntry 20 = .ok (.iconst 0, 1) := dk_3 (dk_at dksX4_hasEntry_0 20 rfl rfl)
theorem dX4_hasEntry_21 : decode cX4_hasEntry 21 = .ok (.ireturn, 1) := dk_172 (dk_at dksX4_hasEntry_0 21 rfl rfl)
abbrev cX4_takes : ByteArray := prog_8_method_2_code
def yX4_takes : MethodName := ⟨RX4, "takes", "(LTermLog$Node;)V"⟩
def dkwX4_takes_11 : List UInt8 := [180, 0, 36, 28, 46, 79, 132, 2, 1, 167, 255, 211, 177]
abbrev dktX4_takes_11 : List UInt8 := dkwX4_takes_11 ++ []
def dkwX4_takes_10 : List UInt8 := [180, 0, 30, 28, 46, 79, 42, 180, 0, 33, 28, 43, 180, 0, 33, 28, 46, 79, 42, 180, 0, 36, 28, 43]
abbrev dktX4_takes_10 : List UInt8 := dkwX4_takes_10 ++ dktX4_takes_11
def dkwX4_takes_9 : List UInt8 := [28, 46, 79, 132, 2, 1, 167, 255, 223, 3, 61, 28, 16, 7, 162, 0, 45, 42, 180, 0, 30, 28, 43]
abbrev dktX4_takes_9 : List UInt8 := dkwX4_takes_9 ++ dktX4_takes_10
def dkwX4_takes_8 : List UInt8 := [162, 0, 33, 42, 180, 0, 24, 28, 43, 180, 0, 24, 28, 46, 79, 42, 180, 0, 27, 28, 43, 180, 0, 27]
abbrev dktX4_takes_8 : List UInt8 := dkwX4_takes_8 ++ dktX4_takes_9
def dkwX4_takes_7 : List UInt8 := [180, 0, 21, 28, 43, 180, 0, 21, 28, 46, 79, 132, 2, 1, 167, 255, 197, 3, 61, 28, 16, 8]
abbrev dktX4_takes_7 : List UInt8 := dkwX4_takes_7 ++ dktX4_takes_8
def dkwX4_takes_6 : List UInt8 := [180, 0, 15, 28, 43, 180, 0, 15, 28, 46, 79, 42, 180, 0, 18, 28, 43, 180, 0, 18, 28, 46, 79, 42]
abbrev dktX4_takes_6 : List UInt8 := dkwX4_takes_6 ++ dktX4_takes_7
def dkwX4_takes_5 : List UInt8 := [3, 61, 28, 42, 180, 0, 58, 162, 0, 57, 42, 180, 0, 9, 28, 43, 180, 0, 9, 28, 46, 79, 42]
abbrev dktX4_takes_5 : List UInt8 := dkwX4_takes_5 ++ dktX4_takes_6
def dkwX4_takes_4 : List UInt8 := [42, 43, 180, 0, 76, 181, 0, 76, 42, 43, 180, 0, 79, 181, 0, 79, 42, 43, 180, 0, 82, 181, 0, 82]
abbrev dktX4_takes_4 : List UInt8 := dkwX4_takes_4 ++ dktX4_takes_5
def dkwX4_takes_3 : List UInt8 := [42, 43, 180, 0, 67, 181, 0, 67, 42, 43, 180, 0, 70, 181, 0, 70, 42, 43, 180, 0, 73, 181, 0, 73]
abbrev dktX4_takes_3 : List UInt8 := dkwX4_takes_3 ++ dktX4_takes_4
def dkwX4_takes_2 : List UInt8 := [42, 43, 180, 0, 58, 181, 0, 58, 42, 43, 180, 0, 61, 181, 0, 61, 42, 43, 180, 0, 64, 181, 0, 64]
abbrev dktX4_takes_2 : List UInt8 := dkwX4_takes_2 ++ dktX4_takes_3
def dkwX4_takes_1 : List UInt8 := [42, 43, 180, 0, 49, 181, 0, 49, 42, 43, 180, 0, 52, 181, 0, 52, 42, 43, 180, 0, 55, 181, 0, 55]
abbrev dktX4_takes_1 : List UInt8 := dkwX4_takes_1 ++ dktX4_takes_2
def dkwX4_takes_0 : List UInt8 := [42, 43, 180, 0, 39, 181, 0, 39, 42, 43, 180, 0, 43, 181, 0, 43, 42, 43, 180, 0, 46, 181, 0, 46]
abbrev dktX4_takes_0 : List UInt8 := dkwX4_takes_0 ++ dktX4_takes_1
theorem dksX4_takes_0 : cX4_takes.data.toList.drop 0 = dktX4_takes_0 := by decide +kernel
theorem dksX4_takes_1 : cX4_takes.data.toList.drop 24 = dktX4_takes_1 := dk_seg dksX4_takes_0 24 rfl rfl
theorem dksX4_takes_2 : cX4_takes.data.toList.drop 48 = dktX4_takes_2 := dk_seg dksX4_takes_1 24 rfl rfl
theorem dksX4_takes_3 : cX4_takes.data.toList.drop 72 = dktX4_takes_3 := dk_seg dksX4_takes_2 24 rfl rfl
theorem dksX4_takes_4 : cX4_takes.data.toList.drop 96 = dktX4_takes_4 := dk_seg dksX4_takes_3 24 rfl rfl
theorem dksX4_takes_5 : cX4_takes.data.toList.drop 120 = dktX4_takes_5 := dk_seg dksX4_takes_4 24 rfl rfl
theorem dksX4_takes_6 : cX4_takes.data.toList.drop 143 = dktX4_takes_6 := dk_seg dksX4_takes_5 23 rfl rfl
theorem dksX4_takes_7 : cX4_takes.data.toList.drop 167 = dktX4_takes_7 := dk_seg dksX4_takes_6 24 rfl rfl
theorem dksX4_takes_8 : cX4_takes.data.toList.drop 189 = dktX4_takes_8 := dk_seg dksX4_takes_7 22 rfl rfl
theorem dksX4_takes_9 : cX4_takes.data.toList.drop 213 = dktX4_takes_9 := dk_seg dksX4_takes_8 24 rfl rfl
theorem dksX4_takes_10 : cX4_takes.data.toList.drop 236 = dktX4_takes_10 := dk_seg dksX4_takes_9 23 rfl rfl
theorem dksX4_takes_11 : cX4_takes.data.toList.drop 260 = dktX4_takes_11 := dk_seg dksX4_takes_10 24 rfl rfl
theorem dX4_takes_0 : decode cX4_takes 0 = .ok (.aload_n 0, 1) := dk_42 (dk_at dksX4_takes_0 0 rfl rfl)
theorem dX4_takes_1 : decode cX4_takes 1 = .ok (.aload_n 1, 1) := dk_43 (dk_at dksX4_takes_0 1 rfl rfl)
theorem dX4_takes_2 : decode cX4_takes 2 = .ok (.getfield 39, 3) := dk_180 0 39 (dk_at dksX4_takes_0 2 rfl rfl)
theorem dX4_takes_5 : decode cX4_takes 5 = .ok (.putfield 39, 3) := dk_181 0 39 (dk_at dksX4_takes_0 5 rfl rfl)
theorem dX4_takes_8 : decode cX4_takes 8 = .ok (.aload_n 0, 1) := dk_42 (dk_at dksX4_takes_0 8 rfl rfl)
theorem dX4_takes_9 : decode cX4_takes 9 = .ok (.aload_n 1, 1) := dk_43 (dk_at dksX4_takes_0 9 rfl rfl)
theorem dX4_takes_10 : decode cX4_takes 10 = .ok (.getfield 43, 3) := dk_180 0 43 (dk_at dksX4_takes_0 10 rfl rfl)
theorem dX4_takes_13 : decode cX4_takes 13 = .ok (.putfield 43, 3) := dk_181 0 43 (dk_at dksX4_takes_0 13 rfl rfl)
theorem dX4_takes_16 : decode cX4_takes 16 = .ok (.aload_n 0, 1) := dk_42 (dk_at dksX4_takes_0 16 rfl rfl)
theorem dX4_takes_17 : decode cX4_takes 17 = .ok (.aload_n 1, 1) := dk_43 (dk_at dksX4_takes_0 17 rfl rfl)
theorem dX4_takes_18 : decode cX4_takes 18 = .ok (.getfield 46, 3) := dk_180 0 46 (dk_at dksX4_takes_0 18 rfl rfl)
theorem dX4_takes_21 : decode cX4_takes 21 = .ok (.putfield 46, 3) := dk_181 0 46 (dk_at dksX4_takes_0 21 rfl rfl)
theorem dX4_takes_24 : decode cX4_takes 24 = .ok (.aload_n 0, 1) := dk_42 (dk_at dksX4_takes_1 0 rfl rfl)
theorem dX4_takes_25 : decode cX4_takes 25 = .ok (.aload_n 1, 1) := dk_43 (dk_at dksX4_takes_1 1 rfl rfl)
theorem dX4_takes_26 : decode cX4_takes 26 = .ok (.getfield 49, 3) := dk_180 0 49 (dk_at dksX4_takes_1 2 rfl rfl)
theorem dX4_takes_29 : decode cX4_takes 29 = .ok (.putfield 49, 3) := dk_181 0 49 (dk_at dksX4_takes_1 5 rfl rfl)
theorem dX4_takes_32 : decode cX4_takes 32 = .ok (.aload_n 0, 1) := dk_42 (dk_at dksX4_takes_1 8 rfl rfl)
theorem dX4_takes_33 : decode cX4_takes 33 = .ok (.aload_n 1, 1) := dk_43 (dk_at dksX4_takes_1 9 rfl rfl)
theorem dX4_takes_34 : decode cX4_takes 34 = .ok (.getfield 52, 3) := dk_180 0 52 (dk_at dksX4_takes_1 10 rfl rfl)
theorem dX4_takes_37 : decode cX4_takes 37 = .ok (.putfield 52, 3) := dk_181 0 52 (dk_at dksX4_takes_1 13 rfl rfl)
theorem dX4_takes_40 : decode cX4_takes 40 = .ok (.aload_n 0, 1) := dk_42 (dk_at dksX4_takes_1 16 rfl rfl)
theorem dX4_takes_41 : decode cX4_takes 41 = .ok (.aload_n 1, 1) := dk_43 (dk_at dksX4_takes_1 17 rfl rfl)
theorem dX4_takes_42 : decode cX4_takes 42 = .ok (.getfield 55, 3) := dk_180 0 55 (dk_at dksX4_takes_1 18 rfl rfl)
theorem dX4_takes_45 : decode cX4_takes 45 = .ok (.putfield 55, 3) := dk_181 0 55 (dk_at dksX4_takes_1 21 rfl rfl)
theorem dX4_takes_48 : decode cX4_takes 48 = .ok (.aload_n 0, 1) := dk_42 (dk_at dksX4_takes_2 0 rfl rfl)
theorem dX4_takes_49 : decode cX4_takes 49 = .ok (.aload_n 1, 1) := dk_43 (dk_at dksX4_takes_2 1 rfl rfl)
theorem dX4_takes_50 : decode cX4_takes 50 = .ok (.getfield 58, 3) := dk_180 0 58 (dk_at dksX4_takes_2 2 rfl rfl)
theorem dX4_takes_53 : decode cX4_takes 53 = .ok (.putfield 58, 3) := dk_181 0 58 (dk_at dksX4_takes_2 5 rfl rfl)
theorem dX4_takes_56 : decode cX4_takes 56 = .ok (.aload_n 0, 1) := dk_42 (dk_at dksX4_takes_2 8 rfl rfl)
theorem dX4_takes_57 : decode cX4_takes 57 = .ok (.aload_n 1, 1) := dk_43 (dk_at dksX4_takes_2 9 rfl rfl)
theorem dX4_takes_58 : decode cX4_takes 58 = .ok (.getfield 61, 3) := dk_180 0 61 (dk_at dksX4_takes_2 10 rfl rfl)
theorem dX4_takes_61 : decode cX4_takes 61 = .ok (.putfield 61, 3) := dk_181 0 61 (dk_at dksX4_takes_2 13 rfl rfl)
theorem dX4_takes_64 : decode cX4_takes 64 = .ok (.aload_n 0, 1) := dk_42 (dk_at dksX4_takes_2 16 rfl rfl)
theorem dX4_takes_65 : decode cX4_takes 65 = .ok (.aload_n 1, 1) := dk_43 (dk_at dksX4_takes_2 17 rfl rfl)
theorem dX4_takes_66 : decode cX4_takes 66 = .ok (.getfield 64, 3) := dk_180 0 64 (dk_at dksX4_takes_2 18 rfl rfl)
theorem dX4_takes_69 : decode cX4_takes 69 = .ok (.putfield 64, 3) := dk_181 0 64 (dk_at dksX4_takes_2 21 rfl rfl)
theorem dX4_takes_72 : decode cX4_takes 72 = .ok (.aload_n 0, 1) := dk_42 (dk_at dksX4_takes_3 0 rfl rfl)
theorem dX4_takes_73 : decode cX4_takes 73 = .ok (.aload_n 1, 1) := dk_43 (dk_at dksX4_takes_3 1 rfl rfl)
theorem dX4_takes_74 : decode cX4_takes 74 = .ok (.getfield 67, 3) := dk_180 0 67 (dk_at dksX4_takes_3 2 rfl rfl)
theorem dX4_takes_77 : decode cX4_takes 77 = .ok (.putfield 67, 3) := dk_181 0 67 (dk_at dksX4_takes_3 5 rfl rfl)
theorem dX4_takes_80 : decode cX4_takes 80 = .ok (.aload_n 0, 1) := dk_42 (dk_at dksX4_takes_3 8 rfl rfl)
theorem dX4_takes_81 : decode cX4_takes 81 = .ok (.aload_n 1, 1) := dk_43 (dk_at dksX4_takes_3 9 rfl rfl)
theorem dX4_takes_82 : decode cX4_takes 82 = .ok (.getfield 70, 3) := dk_180 0 70 (dk_at dksX4_takes_3 10 rfl rfl)
theorem dX4_takes_85 : decode cX4_takes 85 = .ok (.putfield 70, 3) := dk_181 0 70 (dk_at dksX4_takes_3 13 rfl rfl)
theorem dX4_takes_88 : decode cX4_takes 88 = .ok (.aload_n 0, 1) := dk_42 (dk_at dksX4_takes_3 16 rfl rfl)
theorem dX4_takes_89 : decode cX4_takes 89 = .ok (.aload_n 1, 1) := dk_43 (dk_at dksX4_takes_3 17 rfl rfl)
theorem dX4_takes_90 : decode cX4_takes 90 = .ok (.getfield 73, 3) := dk_180 0 73 (dk_at dksX4_takes_3 18 rfl rfl)
theorem dX4_takes_93 : decode cX4_takes 93 = .ok (.putfield 73, 3) := dk_181 0 73 (dk_at dksX4_takes_3 21 rfl rfl)
theorem dX4_takes_96 : decode cX4_takes 96 = .ok (.aload_n 0, 1) := dk_42 (dk_at dksX4_takes_4 0 rfl rfl)
theorem dX4_takes_97 : decode cX4_takes 97 = .ok (.aload_n 1, 1) := dk_43 (dk_at dksX4_takes_4 1 rfl rfl)
theorem dX4_takes_98 : decode cX4_takes 98 = .ok (.getfield 76, 3) := dk_180 0 76 (dk_at dksX4_takes_4 2 rfl rfl)
theorem dX4_takes_101 : decode cX4_takes 101 = .ok (.putfield 76, 3) := dk_181 0 76 (dk_at dksX4_takes_4 5 rfl rfl)
theorem dX4_takes_104 : decode cX4_takes 104 = .ok (.aload_n 0, 1) := dk_42 (dk_at dksX4_takes_4 8 rfl rfl)
theorem dX4_takes_105 : decode cX4_takes 105 = .ok (.aload_n 1, 1) := dk_43 (dk_at dksX4_takes_4 9 rfl rfl)
theorem dX4_takes_106 : decode cX4_takes 106 = .ok (.getfield 79, 3) := dk_180 0 79 (dk_at dksX4_takes_4 10 rfl rfl)
theorem dX4_takes_109 : decode cX4_takes 109 = .ok (.putfield 79, 3) := dk_181 0 79 (dk_at dksX4_takes_4 13 rfl rfl)
theorem dX4_takes_112 : decode cX4_takes 112 = .ok (.aload_n 0, 1) := dk_42 (dk_at dksX4_takes_4 16 rfl rfl)
theorem dX4_takes_113 : decode cX4_takes 113 = .ok (.aload_n 1, 1) := dk_43 (dk_at dksX4_takes_4 17 rfl rfl)
theorem dX4_takes_114 : decode cX4_takes 114 = .ok (.getfield 82, 3) := dk_180 0 82 (dk_at dksX4_takes_4 18 rfl rfl)
theorem dX4_takes_117 : decode cX4_takes 117 = .ok (.putfield 82, 3) := dk_181 0 82 (dk_at dksX4_takes_4 21 rfl rfl)
theorem dX4_takes_120 : decode cX4_takes 120 = .ok (.iconst 0, 1) := dk_3 (dk_at dksX4_takes_5 0 rfl rfl)
theorem dX4_takes_121 : decode cX4_takes 121 = .ok (.istore_n 2, 1) := dk_61 (dk_at dksX4_takes_5 1 rfl rfl)
theorem dX4_takes_122 : decode cX4_takes 122 = .ok (.iload_n 2, 1) := dk_28 (dk_at dksX4_takes_5 2 rfl rfl)
theorem dX4_takes_123 : decode cX4_takes 123 = .ok (.aload_n 0, 1) := dk_42 (dk_at dksX4_takes_5 3 rfl rfl)
theorem dX4_takes_124 : decode cX4_takes 124 = .ok (.getfield 58, 3) := dk_180 0 58 (dk_at dksX4_takes_5 4 rfl rfl)
theorem dX4_takes_127 : decode cX4_takes 127 = .ok (.if_icmp .ge 57, 3) := dk_162 0 57 (dk_at dksX4_takes_5 7 rfl rfl)
theorem dX4_takes_130 : decode cX4_takes 130 = .ok (.aload_n 0, 1) := dk_42 (dk_at dksX4_takes_5 10 rfl rfl)
theorem dX4_takes_131 : decode cX4_takes 131 = .ok (.getfield 9, 3) := dk_180 0 9 (dk_at dksX4_takes_5 11 rfl rfl)
theorem dX4_takes_134 : decode cX4_takes 134 = .ok (.iload_n 2, 1) := dk_28 (dk_at dksX4_takes_5 14 rfl rfl)
theorem dX4_takes_135 : decode cX4_takes 135 = .ok (.aload_n 1, 1) := dk_43 (dk_at dksX4_takes_5 15 rfl rfl)
theorem dX4_takes_136 : decode cX4_takes 136 = .ok (.getfield 9, 3) := dk_180 0 9 (dk_at dksX4_takes_5 16 rfl rfl)
theorem dX4_takes_139 : decode cX4_takes 139 = .ok (.iload_n 2, 1) := dk_28 (dk_at dksX4_takes_5 19 rfl rfl)
theorem dX4_takes_140 : decode cX4_takes 140 = .ok (.iaload, 1) := dk_46 (dk_at dksX4_takes_5 20 rfl rfl)
theorem dX4_takes_141 : decode cX4_takes 141 = .ok (.iastore, 1) := dk_79 (dk_at dksX4_takes_5 21 rfl rfl)
theorem dX4_takes_142 : decode cX4_takes 142 = .ok (.aload_n 0, 1) := dk_42 (dk_at dksX4_takes_5 22 rfl rfl)
theorem dX4_takes_143 : decode cX4_takes 143 = .ok (.getfield 15, 3) := dk_180 0 15 (dk_at dksX4_takes_6 0 rfl rfl)
theorem dX4_takes_146 : decode cX4_takes 146 = .ok (.iload_n 2, 1) := dk_28 (dk_at dksX4_takes_6 3 rfl rfl)
theorem dX4_takes_147 : decode cX4_takes 147 = .ok (.aload_n 1, 1) := dk_43 (dk_at dksX4_takes_6 4 rfl rfl)
theorem dX4_takes_148 : decode cX4_takes 148 = .ok (.getfield 15, 3) := dk_180 0 15 (dk_at dksX4_takes_6 5 rfl rfl)
theorem dX4_takes_151 : decode cX4_takes 151 = .ok (.iload_n 2, 1) := dk_28 (dk_at dksX4_takes_6 8 rfl rfl)
theorem dX4_takes_152 : decode cX4_takes 152 = .ok (.iaload, 1) := dk_46 (dk_at dksX4_takes_6 9 rfl rfl)
theorem dX4_takes_153 : decode cX4_takes 153 = .ok (.iastore, 1) := dk_79 (dk_at dksX4_takes_6 10 rfl rfl)
theorem dX4_takes_154 : decode cX4_takes 154 = .ok (.aload_n 0, 1) := dk_42 (dk_at dksX4_takes_6 11 rfl rfl)
theorem dX4_takes_155 : decode cX4_takes 155 = .ok (.getfield 18, 3) := dk_180 0 18 (dk_at dksX4_takes_6 12 rfl rfl)
theorem dX4_takes_158 : decode cX4_takes 158 = .ok (.iload_n 2, 1) := dk_28 (dk_at dksX4_takes_6 15 rfl rfl)
theorem dX4_takes_159 : decode cX4_takes 159 = .ok (.aload_n 1, 1) := dk_43 (dk_at dksX4_takes_6 16 rfl rfl)
theorem dX4_takes_160 : decode cX4_takes 160 = .ok (.getfield 18, 3) := dk_180 0 18 (dk_at dksX4_takes_6 17 rfl rfl)
theorem dX4_takes_163 : decode cX4_takes 163 = .ok (.iload_n 2, 1) := dk_28 (dk_at dksX4_takes_6 20 rfl rfl)
theorem dX4_takes_164 : decode cX4_takes 164 = .ok (.iaload, 1) := dk_46 (dk_at dksX4_takes_6 21 rfl rfl)
theorem dX4_takes_165 : decode cX4_takes 165 = .ok (.iastore, 1) := dk_79 (dk_at dksX4_takes_6 22 rfl rfl)
theorem dX4_takes_166 : decode cX4_takes 166 = .ok (.aload_n 0, 1) := dk_42 (dk_at dksX4_takes_6 23 rfl rfl)
theorem dX4_takes_167 : decode cX4_takes 167 = .ok (.getfield 21, 3) := dk_180 0 21 (dk_at dksX4_takes_7 0 rfl rfl)
theorem dX4_takes_170 : decode cX4_takes 170 = .ok (.iload_n 2, 1) := dk_28 (dk_at dksX4_takes_7 3 rfl rfl)
theorem dX4_takes_171 : decode cX4_takes 171 = .ok (.aload_n 1, 1) := dk_43 (dk_at dksX4_takes_7 4 rfl rfl)
theorem dX4_takes_172 : decode cX4_takes 172 = .ok (.getfield 21, 3) := dk_180 0 21 (dk_at dksX4_takes_7 5 rfl rfl)
theorem dX4_takes_175 : decode cX4_takes 175 = .ok (.iload_n 2, 1) := dk_28 (dk_at dksX4_takes_7 8 rfl rfl)
theorem dX4_takes_176 : decode cX4_takes 176 = .ok (.iaload, 1) := dk_46 (dk_at dksX4_takes_7 9 rfl rfl)
theorem dX4_takes_177 : decode cX4_takes 177 = .ok (.iastore, 1) := dk_79 (dk_at dksX4_takes_7 10 rfl rfl)
theorem dX4_takes_178 : decode cX4_takes 178 = .ok (.iinc 2 1, 3) := dk_132 2 1 (dk_at dksX4_takes_7 11 rfl rfl)
theorem dX4_takes_181 : decode cX4_takes 181 = .ok (.goto (-59), 3) := dk_167 255 197 (dk_at dksX4_takes_7 14 rfl rfl)
theorem dX4_takes_184 : decode cX4_takes 184 = .ok (.iconst 0, 1) := dk_3 (dk_at dksX4_takes_7 17 rfl rfl)
theorem dX4_takes_185 : decode cX4_takes 185 = .ok (.istore_n 2, 1) := dk_61 (dk_at dksX4_takes_7 18 rfl rfl)
theorem dX4_takes_186 : decode cX4_takes 186 = .ok (.iload_n 2, 1) := dk_28 (dk_at dksX4_takes_7 19 rfl rfl)
theorem dX4_takes_187 : decode cX4_takes 187 = .ok (.bipush 8, 2) := dk_16 8 (dk_at dksX4_takes_7 20 rfl rfl)
theorem dX4_takes_189 : decode cX4_takes 189 = .ok (.if_icmp .ge 33, 3) := dk_162 0 33 (dk_at dksX4_takes_8 0 rfl rfl)
theorem dX4_takes_192 : decode cX4_takes 192 = .ok (.aload_n 0, 1) := dk_42 (dk_at dksX4_takes_8 3 rfl rfl)
theorem dX4_takes_193 : decode cX4_takes 193 = .ok (.getfield 24, 3) := dk_180 0 24 (dk_at dksX4_takes_8 4 rfl rfl)
theorem dX4_takes_196 : decode cX4_takes 196 = .ok (.iload_n 2, 1) := dk_28 (dk_at dksX4_takes_8 7 rfl rfl)
theorem dX4_takes_197 : decode cX4_takes 197 = .ok (.aload_n 1, 1) := dk_43 (dk_at dksX4_takes_8 8 rfl rfl)
theorem dX4_takes_198 : decode cX4_takes 198 = .ok (.getfield 24, 3) := dk_180 0 24 (dk_at dksX4_takes_8 9 rfl rfl)
theorem dX4_takes_201 : decode cX4_takes 201 = .ok (.iload_n 2, 1) := dk_28 (dk_at dksX4_takes_8 12 rfl rfl)
theorem dX4_takes_202 : decode cX4_takes 202 = .ok (.iaload, 1) := dk_46 (dk_at dksX4_takes_8 13 rfl rfl)
theorem dX4_takes_203 : decode cX4_takes 203 = .ok (.iastore, 1) := dk_79 (dk_at dksX4_takes_8 14 rfl rfl)
theorem dX4_takes_204 : decode cX4_takes 204 = .ok (.aload_n 0, 1) := dk_42 (dk_at dksX4_takes_8 15 rfl rfl)
theorem dX4_takes_205 : decode cX4_takes 205 = .ok (.getfield 27, 3) := dk_180 0 27 (dk_at dksX4_takes_8 16 rfl rfl)
theorem dX4_takes_208 : decode cX4_takes 208 = .ok (.iload_n 2, 1) := dk_28 (dk_at dksX4_takes_8 19 rfl rfl)
theorem dX4_takes_209 : decode cX4_takes 209 = .ok (.aload_n 1, 1) := dk_43 (dk_at dksX4_takes_8 20 rfl rfl)
theorem dX4_takes_210 : decode cX4_takes 210 = .ok (.getfield 27, 3) := dk_180 0 27 (dk_at dksX4_takes_8 21 rfl rfl)
theorem dX4_takes_213 : decode cX4_takes 213 = .ok (.iload_n 2, 1) := dk_28 (dk_at dksX4_takes_9 0 rfl rfl)
theorem dX4_takes_214 : decode cX4_takes 214 = .ok (.iaload, 1) := dk_46 (dk_at dksX4_takes_9 1 rfl rfl)
theorem dX4_takes_215 : decode cX4_takes 215 = .ok (.iastore, 1) := dk_79 (dk_at dksX4_takes_9 2 rfl rfl)
theorem dX4_takes_216 : decode cX4_takes 216 = .ok (.iinc 2 1, 3) := dk_132 2 1 (dk_at dksX4_takes_9 3 rfl rfl)
theorem dX4_takes_219 : decode cX4_takes 219 = .ok (.goto (-33), 3) := dk_167 255 223 (dk_at dksX4_takes_9 6 rfl rfl)
theorem dX4_takes_222 : decode cX4_takes 222 = .ok (.iconst 0, 1) := dk_3 (dk_at dksX4_takes_9 9 rfl rfl)
theorem dX4_takes_223 : decode cX4_takes 223 = .ok (.istore_n 2, 1) := dk_61 (dk_at dksX4_takes_9 10 rfl rfl)
theorem dX4_takes_224 : decode cX4_takes 224 = .ok (.iload_n 2, 1) := dk_28 (dk_at dksX4_takes_9 11 rfl rfl)
theorem dX4_takes_225 : decode cX4_takes 225 = .ok (.bipush 7, 2) := dk_16 7 (dk_at dksX4_takes_9 12 rfl rfl)
theorem dX4_takes_227 : decode cX4_takes 227 = .ok (.if_icmp .ge 45, 3) := dk_162 0 45 (dk_at dksX4_takes_9 14 rfl rfl)
theorem dX4_takes_230 : decode cX4_takes 230 = .ok (.aload_n 0, 1) := dk_42 (dk_at dksX4_takes_9 17 rfl rfl)
theorem dX4_takes_231 : decode cX4_takes 231 = .ok (.getfield 30, 3) := dk_180 0 30 (dk_at dksX4_takes_9 18 rfl rfl)
theorem dX4_takes_234 : decode cX4_takes 234 = .ok (.iload_n 2, 1) := dk_28 (dk_at dksX4_takes_9 21 rfl rfl)
theorem dX4_takes_235 : decode cX4_takes 235 = .ok (.aload_n 1, 1) := dk_43 (dk_at dksX4_takes_9 22 rfl rfl)
theorem dX4_takes_236 : decode cX4_takes 236 = .ok (.getfield 30, 3) := dk_180 0 30 (dk_at dksX4_takes_10 0 rfl rfl)
theorem dX4_takes_239 : decode cX4_takes 239 = .ok (.iload_n 2, 1) := dk_28 (dk_at dksX4_takes_10 3 rfl rfl)
theorem dX4_takes_240 : decode cX4_takes 240 = .ok (.iaload, 1) := dk_46 (dk_at dksX4_takes_10 4 rfl rfl)
theorem dX4_takes_241 : decode cX4_takes 241 = .ok (.iastore, 1) := dk_79 (dk_at dksX4_takes_10 5 rfl rfl)
theorem dX4_takes_242 : decode cX4_takes 242 = .ok (.aload_n 0, 1) := dk_42 (dk_at dksX4_takes_10 6 rfl rfl)
theorem dX4_takes_243 : decode cX4_takes 243 = .ok (.getfield 33, 3) := dk_180 0 33 (dk_at dksX4_takes_10 7 rfl rfl)
theorem dX4_takes_246 : decode cX4_takes 246 = .ok (.iload_n 2, 1) := dk_28 (dk_at dksX4_takes_10 10 rfl rfl)
theorem dX4_takes_247 : decode cX4_takes 247 = .ok (.aload_n 1, 1) := dk_43 (dk_at dksX4_takes_10 11 rfl rfl)
theorem dX4_takes_248 : decode cX4_takes 248 = .ok (.getfield 33, 3) := dk_180 0 33 (dk_at dksX4_takes_10 12 rfl rfl)
theorem dX4_takes_251 : decode cX4_takes 251 = .ok (.iload_n 2, 1) := dk_28 (dk_at dksX4_takes_10 15 rfl rfl)
theorem dX4_takes_252 : decode cX4_takes 252 = .ok (.iaload, 1) := dk_46 (dk_at dksX4_takes_10 16 rfl rfl)
theorem dX4_takes_253 : decode cX4_takes 253 = .ok (.iastore, 1) := dk_79 (dk_at dksX4_takes_10 17 rfl rfl)
theorem dX4_takes_254 : decode cX4_takes 254 = .ok (.aload_n 0, 1) := dk_42 (dk_at dksX4_takes_10 18 rfl rfl)
theorem dX4_takes_255 : decode cX4_takes 255 = .ok (.getfield 36, 3) := dk_180 0 36 (dk_at dksX4_takes_10 19 rfl rfl)
theorem dX4_takes_258 : decode cX4_takes 258 = .ok (.iload_n 2, 1) := dk_28 (dk_at dksX4_takes_10 22 rfl rfl)
theorem dX4_takes_259 : decode cX4_takes 259 = .ok (.aload_n 1, 1) := dk_43 (dk_at dksX4_takes_10 23 rfl rfl)
theorem dX4_takes_260 : decode cX4_takes 260 = .ok (.getfield 36, 3) := dk_180 0 36 (dk_at dksX4_takes_11 0 rfl rfl)
theorem dX4_takes_263 : decode cX4_takes 263 = .ok (.iload_n 2, 1) := dk_28 (dk_at dksX4_takes_11 3 rfl rfl)
theorem dX4_takes_264 : decode cX4_takes 264 = .ok (.iaload, 1) := dk_46 (dk_at dksX4_takes_11 4 rfl rfl)
theorem dX4_takes_265 : decode cX4_takes 265 = .ok (.iastore, 1) := dk_79 (dk_at dksX4_takes_11 5 rfl rfl)
theorem dX4_takes_266 : decode cX4_takes 266 = .ok (.iinc 2 1, 3) := dk_132 2 1 (dk_at dksX4_takes_11 6 rfl rfl)
theorem dX4_takes_269 : decode cX4_takes 269 = .ok (.goto (-45), 3) := dk_167 255 211 (dk_at dksX4_takes_11 9 rfl rfl)
theorem dX4_takes_272 : decode cX4_takes 272 = .ok (.return_, 1) := dk_177 (dk_at dksX4_takes_11 12 rfl rfl)
abbrev cX4_isAlike : ByteArray := prog_8_method_23_code
def yX4_isAlike : MethodName := ⟨RX4, "isAlike", "(LTermLog$Node;I)Z"⟩
def dkwX4_isAlike_3 : List UInt8 := [180, 0, 21, 28, 43, 180, 0, 46, 100, 4, 100, 46, 160, 0, 7, 4, 167, 0, 4, 3, 172]
abbrev dktX4_isAlike_3 : List UInt8 := dkwX4_isAlike_3 ++ []
def dkwX4_isAlike_2 : List UInt8 := [180, 0, 46, 100, 4, 100, 46, 160, 0, 36, 42, 180, 0, 21, 28, 42, 180, 0, 46, 100, 4, 100, 46, 43]
abbrev dktX4_isAlike_2 : List UInt8 := dkwX4_isAlike_2 ++ dktX4_isAlike_3
def dkwX4_isAlike_1 : List UInt8 := [160, 0, 65, 42, 180, 0, 18, 28, 42, 180, 0, 46, 100, 4, 100, 46, 43, 180, 0, 18, 28, 43]
abbrev dktX4_isAlike_1 : List UInt8 := dkwX4_isAlike_1 ++ dktX4_isAlike_2
def dkwX4_isAlike_0 : List UInt8 := [42, 28, 182, 0, 121, 43, 28, 182, 0, 121, 160, 0, 78, 42, 28, 182, 0, 93, 43, 28, 182, 0, 93]
abbrev dktX4_isAlike_0 : List UInt8 := dkwX4_isAlike_0 ++ dktX4_isAlike_1
theorem dksX4_isAlike_0 : cX4_isAlike.data.toList.drop 0 = dktX4_isAlike_0 := by decide +kernel
theorem dksX4_isAlike_1 : cX4_isAlike.data.toList.drop 23 = dktX4_isAlike_1 := dk_seg dksX4_isAlike_0 23 rfl rfl
theorem dksX4_isAlike_2 : cX4_isAlike.data.toList.drop 45 = dktX4_isAlike_2 := dk_seg dksX4_isAlike_1 22 rfl rfl
theorem dksX4_isAlike_3 : cX4_isAlike.data.toList.drop 69 = dktX4_isAlike_3 := dk_seg dksX4_isAlike_2 24 rfl rfl
theorem dX4_isAlike_0 : decode cX4_isAlike 0 = .ok (.aload_n 0, 1) := dk_42 (dk_at dksX4_isAlike_0 0 rfl rfl)
theorem dX4_isAlike_1 : decode cX4_isAlike 1 = .ok (.iload_n 2, 1) := dk_28 (dk_at dksX4_isAlike_0 1 rfl rfl)
theorem dX4_isAlike_2 : decode cX4_isAlike 2 = .ok (.invokevirtual 121, 3) := dk_182 0 121 (dk_at dksX4_isAlike_0 2 rfl rfl)
theorem dX4_isAlike_5 : decode cX4_isAlike 5 = .ok (.aload_n 1, 1) := dk_43 (dk_at dksX4_isAlike_0 5 rfl rfl)
theorem dX4_isAlike_6 : decode cX4_isAlike 6 = .ok (.iload_n 2, 1) := dk_28 (dk_at dksX4_isAlike_0 6 rfl rfl)
theorem dX4_isAlike_7 : decode cX4_isAlike 7 = .ok (.invokevirtual 121, 3) := dk_182 0 121 (dk_at dksX4_isAlike_0 7 rfl rfl)
theorem dX4_isAlike_10 : decode cX4_isAlike 10 = .ok (.if_icmp .ne 78, 3) := dk_160 0 78 (dk_at dksX4_isAlike_0 10 rfl rfl)
theorem dX4_isAlike_13 : decode cX4_isAlike 13 = .ok (.aload_n 0, 1) := dk_42 (dk_at dksX4_isAlike_0 13 rfl rfl)
theorem dX4_isAlike_14 : decode cX4_isAlike 14 = .ok (.iload_n 2, 1) := dk_28 (dk_at dksX4_isAlike_0 14 rfl rfl)
theorem dX4_isAlike_15 : decode cX4_isAlike 15 = .ok (.invokevirtual 93, 3) := dk_182 0 93 (dk_at dksX4_isAlike_0 15 rfl rfl)
theorem dX4_isAlike_18 : decode cX4_isAlike 18 = .ok (.aload_n 1, 1) := dk_43 (dk_at dksX4_isAlike_0 18 rfl rfl)
theorem dX4_isAlike_19 : decode cX4_isAlike 19 = .ok (.iload_n 2, 1) := dk_28 (dk_at dksX4_isAlike_0 19 rfl rfl)
theorem dX4_isAlike_20 : decode cX4_isAlike 20 = .ok (.invokevirtual 93, 3) := dk_182 0 93 (dk_at dksX4_isAlike_0 20 rfl rfl)
theorem dX4_isAlike_23 : decode cX4_isAlike 23 = .ok (.if_icmp .ne 65, 3) := dk_160 0 65 (dk_at dksX4_isAlike_1 0 rfl rfl)
theorem dX4_isAlike_26 : decode cX4_isAlike 26 = .ok (.aload_n 0, 1) := dk_42 (dk_at dksX4_isAlike_1 3 rfl rfl)
theorem dX4_isAlike_27 : decode cX4_isAlike 27 = .ok (.getfield 18, 3) := dk_180 0 18 (dk_at dksX4_isAlike_1 4 rfl rfl)
theorem dX4_isAlike_30 : decode cX4_isAlike 30 = .ok (.iload_n 2, 1) := dk_28 (dk_at dksX4_isAlike_1 7 rfl rfl)
theorem dX4_isAlike_31 : decode cX4_isAlike 31 = .ok (.aload_n 0, 1) := dk_42 (dk_at dksX4_isAlike_1 8 rfl rfl)
theorem dX4_isAlike_32 : decode cX4_isAlike 32 = .ok (.getfield 46, 3) := dk_180 0 46 (dk_at dksX4_isAlike_1 9 rfl rfl)
theorem dX4_isAlike_35 : decode cX4_isAlike 35 = .ok (.isub, 1) := dk_100 (dk_at dksX4_isAlike_1 12 rfl rfl)
theorem dX4_isAlike_36 : decode cX4_isAlike 36 = .ok (.iconst 1, 1) := dk_4 (dk_at dksX4_isAlike_1 13 rfl rfl)
theorem dX4_isAlike_37 : decode cX4_isAlike 37 = .ok (.isub, 1) := dk_100 (dk_at dksX4_isAlike_1 14 rfl rfl)
theorem dX4_isAlike_38 : decode cX4_isAlike 38 = .ok (.iaload, 1) := dk_46 (dk_at dksX4_isAlike_1 15 rfl rfl)
theorem dX4_isAlike_39 : decode cX4_isAlike 39 = .ok (.aload_n 1, 1) := dk_43 (dk_at dksX4_isAlike_1 16 rfl rfl)
theorem dX4_isAlike_40 : decode cX4_isAlike 40 = .ok (.getfield 18, 3) := dk_180 0 18 (dk_at dksX4_isAlike_1 17 rfl rfl)
theorem dX4_isAlike_43 : decode cX4_isAlike 43 = .ok (.iload_n 2, 1) := dk_28 (dk_at dksX4_isAlike_1 20 rfl rfl)
theorem dX4_isAlike_44 : decode cX4_isAlike 44 = .ok (.aload_n 1, 1) := dk_43 (dk_at dksX4_isAlike_1 21 rfl rfl)
theorem dX4_isAlike_45 : decode cX4_isAlike 45 = .ok (.getfield 46, 3) := dk_180 0 46 (dk_at dksX4_isAlike_2 0 rfl rfl)
theorem dX4_isAlike_48 : decode cX4_isAlike 48 = .ok (.isub, 1) := dk_100 (dk_at dksX4_isAlike_2 3 rfl rfl)
theorem dX4_isAlike_49 : decode cX4_isAlike 49 = .ok (.iconst 1, 1) := dk_4 (dk_at dksX4_isAlike_2 4 rfl rfl)
theorem dX4_isAlike_50 : decode cX4_isAlike 50 = .ok (.isub, 1) := dk_100 (dk_at dksX4_isAlike_2 5 rfl rfl)
theorem dX4_isAlike_51 : decode cX4_isAlike 51 = .ok (.iaload, 1) := dk_46 (dk_at dksX4_isAlike_2 6 rfl rfl)
theorem dX4_isAlike_52 : decode cX4_isAlike 52 = .ok (.if_icmp .ne 36, 3) := dk_160 0 36 (dk_at dksX4_isAlike_2 7 rfl rfl)
theorem dX4_isAlike_55 : decode cX4_isAlike 55 = .ok (.aload_n 0, 1) := dk_42 (dk_at dksX4_isAlike_2 10 rfl rfl)
theorem dX4_isAlike_56 : decode cX4_isAlike 56 = .ok (.getfield 21, 3) := dk_180 0 21 (dk_at dksX4_isAlike_2 11 rfl rfl)
theorem dX4_isAlike_59 : decode cX4_isAlike 59 = .ok (.iload_n 2, 1) := dk_28 (dk_at dksX4_isAlike_2 14 rfl rfl)
theorem dX4_isAlike_60 : decode cX4_isAlike 60 = .ok (.aload_n 0, 1) := dk_42 (dk_at dksX4_isAlike_2 15 rfl rfl)
theorem dX4_isAlike_61 : decode cX4_isAlike 61 = .ok (.getfield 46, 3) := dk_180 0 46 (dk_at dksX4_isAlike_2 16 rfl rfl)
theorem dX4_isAlike_64 : decode cX4_isAlike 64 = .ok (.isub, 1) := dk_100 (dk_at dksX4_isAlike_2 19 rfl rfl)
theorem dX4_isAlike_65 : decode cX4_isAlike 65 = .ok (.iconst 1, 1) := dk_4 (dk_at dksX4_isAlike_2 20 rfl rfl)
theorem dX4_isAlike_66 : decode cX4_isAlike 66 = .ok (.isub, 1) := dk_100 (dk_at dksX4_isAlike_2 21 rfl rfl)
theorem dX4_isAlike_67 : decode cX4_isAlike 67 = .ok (.iaload, 1) := dk_46 (dk_at dksX4_isAlike_2 22 rfl rfl)
theorem dX4_isAlike_68 : decode cX4_isAlike 68 = .ok (.aload_n 1, 1) := dk_43 (dk_at dksX4_isAlike_2 23 rfl rfl)
theorem dX4_isAlike_69 : decode cX4_isAlike 69 = .ok (.getfield 21, 3) := dk_180 0 21 (dk_at dksX4_isAlike_3 0 rfl rfl)
theorem dX4_isAlike_72 : decode cX4_isAlike 72 = .ok (.iload_n 2, 1) := dk_28 (dk_at dksX4_isAlike_3 3 rfl rfl)
theorem dX4_isAlike_73 : decode cX4_isAlike 73 = .ok (.aload_n 1, 1) := dk_43 (dk_at dksX4_isAlike_3 4 rfl rfl)
theorem dX4_isAlike_74 : decode cX4_isAlike 74 = .ok (.getfield 46, 3) := dk_180 0 46 (dk_at dksX4_isAlike_3 5 rfl rfl)
theorem dX4_isAlike_77 : decode cX4_isAlike 77 = .ok (.isub, 1) := dk_100 (dk_at dksX4_isAlike_3 8 rfl rfl)
theorem dX4_isAlike_78 : decode cX4_isAlike 78 = .ok (.iconst 1, 1) := dk_4 (dk_at dksX4_isAlike_3 9 rfl rfl)
theorem dX4_isAlike_79 : decode cX4_isAlike 79 = .ok (.isub, 1) := dk_100 (dk_at dksX4_isAlike_3 10 rfl rfl)
theorem dX4_isAlike_80 : decode cX4_isAlike 80 = .ok (.iaload, 1) := dk_46 (dk_at dksX4_isAlike_3 11 rfl rfl)
theorem dX4_isAlike_81 : decode cX4_isAlike 81 = .ok (.if_icmp .ne 7, 3) := dk_160 0 7 (dk_at dksX4_isAlike_3 12 rfl rfl)
theorem dX4_isAlike_84 : decode cX4_isAlike 84 = .ok (.iconst 1, 1) := dk_4 (dk_at dksX4_isAlike_3 15 rfl rfl)
theorem dX4_isAlike_85 : decode cX4_isAlike 85 = .ok (.goto 4, 3) := dk_167 0 4 (dk_at dksX4_isAlike_3 16 rfl rfl)
theorem dX4_isAlike_88 : decode cX4_isAlike 88 = .ok (.iconst 0, 1) := dk_3 (dk_at dksX4_isAlike_3 19 rfl rfl)
theorem dX4_isAlike_89 : decode cX4_isAlike 89 = .ok (.ireturn, 1) := dk_172 (dk_at dksX4_isAlike_3 20 rfl rfl)
theorem q162 : (Jvm.Cond.initialized "TermLog$Node") ∈ lw_all := lw_g (lw_at lw_m1 5 rfl) rfl
theorem q236 : (Jvm.Cond.instantiable "TermLog$Node" (24 : Nat)) ∈ lw_all := lw_g (lw_at lw_m1 79 rfl) rfl
theorem q238 : (Jvm.Cond.instanceMethod ({ cls := "TermLog$Node", name := "<init>", desc := "()V" } : Jvm.MethodName)) ∈ lw_all := lw_g (lw_at lw_m1 81 rfl) rfl
theorem q239 : (Jvm.Cond.code ({ cls := "TermLog$Node", name := "<init>", desc := "()V" } : Jvm.MethodName) prog_8_method_1_code (1 : Nat) (Option.none : Option Jvm.ClassFile.FieldType)) ∈ lw_all := lw_g (lw_at lw_m1 82 rfl) rfl
theorem q240 : (Jvm.Cond.methodLink "TermLog$Node" (3 : Nat) ({ cls := "java/lang/Object", name := "<init>", desc := "()V" } : Jvm.MethodName)) ∈ lw_all := lw_g (lw_at lw_m1 83 rfl) rfl
theorem q241 : (Jvm.Cond.fieldLink "TermLog$Node" (9 : Nat) "TermLog$Node" "terms" "[I") ∈ lw_all := lw_g (lw_at lw_m1 84 rfl) rfl
theorem q244 : (Jvm.Cond.fieldLink "TermLog$Node" (15 : Nat) "TermLog$Node" "kinds" "[I") ∈ lw_all := lw_g (lw_at lw_m1 87 rfl) rfl
theorem q247 : (Jvm.Cond.fieldLink "TermLog$Node" (18 : Nat) "TermLog$Node" "ones" "[I") ∈ lw_all := lw_g (lw_at lw_m1 90 rfl) rfl
theorem q250 : (Jvm.Cond.fieldLink "TermLog$Node" (21 : Nat) "TermLog$Node" "others" "[I") ∈ lw_all := lw_g (lw_at lw_m1 93 rfl) rfl
theorem q253 : (Jvm.Cond.fieldLink "TermLog$Node" (24 : Nat) "TermLog$Node" "keys" "[I") ∈ lw_all := lw_g (lw_at lw_m1 96 rfl) rfl
theorem q256 : (Jvm.Cond.fieldLink "TermLog$Node" (27 : Nat) "TermLog$Node" "baseKeys" "[I") ∈ lw_all := lw_g (lw_at lw_m1 99 rfl) rfl
theorem q259 : (Jvm.Cond.fieldLink "TermLog$Node" (30 : Nat) "TermLog$Node" "next" "[I") ∈ lw_all := lw_g (lw_at lw_m1 102 rfl) rfl
theorem q262 : (Jvm.Cond.fieldLink "TermLog$Node" (33 : Nat) "TermLog$Node" "match" "[I") ∈ lw_all := lw_g (lw_at lw_m1 105 rfl) rfl
theorem q265 : (Jvm.Cond.fieldLink "TermLog$Node" (36 : Nat) "TermLog$Node" "heard" "[I") ∈ lw_all := lw_g (lw_at lw_m1 108 rfl) rfl
theorem q268 : (Jvm.Cond.fieldLink "TermLog$Node" (39 : Nat) "TermLog$Node" "term" "I") ∈ lw_all := lw_g (lw_at lw_m1 111 rfl) rfl
theorem q271 : (Jvm.Cond.fieldLink "TermLog$Node" (43 : Nat) "TermLog$Node" "vote" "I") ∈ lw_all := lw_g (lw_at lw_m1 114 rfl) rfl
theorem q274 : (Jvm.Cond.fieldLink "TermLog$Node" (46 : Nat) "TermLog$Node" "base" "I") ∈ lw_all := lw_g (lw_at lw_m1 117 rfl) rfl
theorem q277 : (Jvm.Cond.fieldLink "TermLog$Node" (49 : Nat) "TermLog$Node" "baseTerm" "I") ∈ lw_all := lw_g (lw_at lw_m1 120 rfl) rfl
theorem q279 : (Jvm.Cond.fieldLink "TermLog$Node" (52 : Nat) "TermLog$Node" "baseOld" "I") ∈ lw_all := lw_g (lw_at lw_m1 122 rfl) rfl
theorem q281 : (Jvm.Cond.fieldLink "TermLog$Node" (55 : Nat) "TermLog$Node" "baseNew" "I") ∈ lw_all := lw_g (lw_at lw_m1 124 rfl) rfl
theorem q283 : (Jvm.Cond.fieldLink "TermLog$Node" (58 : Nat) "TermLog$Node" "many" "I") ∈ lw_all := lw_g (lw_at lw_m1 126 rfl) rfl
theorem q285 : (Jvm.Cond.fieldLink "TermLog$Node" (61 : Nat) "TermLog$Node" "role" "I") ∈ lw_all := lw_g (lw_at lw_m1 128 rfl) rfl
theorem q288 : (Jvm.Cond.fieldLink "TermLog$Node" (64 : Nat) "TermLog$Node" "commit" "I") ∈ lw_all := lw_g (lw_at lw_m1 131 rfl) rfl
theorem q291 : (Jvm.Cond.fieldLink "TermLog$Node" (67 : Nat) "TermLog$Node" "timer" "I") ∈ lw_all := lw_g (lw_at lw_m1 134 rfl) rfl
theorem q294 : (Jvm.Cond.fieldLink "TermLog$Node" (70 : Nat) "TermLog$Node" "known" "I") ∈ lw_all := lw_g (lw_at lw_m1 137 rfl) rfl
theorem q297 : (Jvm.Cond.fieldLink "TermLog$Node" (73 : Nat) "TermLog$Node" "votes" "I") ∈ lw_all := lw_g (lw_at lw_m1 140 rfl) rfl
theorem q300 : (Jvm.Cond.fieldLink "TermLog$Node" (76 : Nat) "TermLog$Node" "round" "I") ∈ lw_all := lw_g (lw_at lw_m1 143 rfl) rfl
theorem q303 : (Jvm.Cond.fieldLink "TermLog$Node" (79 : Nat) "TermLog$Node" "heart" "I") ∈ lw_all := lw_g (lw_at lw_m1 146 rfl) rfl
theorem q306 : (Jvm.Cond.fieldLink "TermLog$Node" (82 : Nat) "TermLog$Node" "isUp" "Z") ∈ lw_all := lw_g (lw_at lw_m1 149 rfl) rfl
theorem q309 : (Jvm.Cond.laysFinal "TermLog$Node" "TermLog$Node" "terms" "[I") ∈ lw_all := lw_g (lw_at lw_m1 152 rfl) rfl
theorem q310 : (Jvm.Cond.soleField "TermLog$Node" "terms") ∈ lw_all := lw_g (lw_at lw_m1 153 rfl) rfl
theorem q311 : (Jvm.Cond.laysFinal "TermLog$Node" "TermLog$Node" "kinds" "[I") ∈ lw_all := lw_g (lw_at lw_m1 154 rfl) rfl
theorem q312 : (Jvm.Cond.soleField "TermLog$Node" "kinds") ∈ lw_all := lw_g (lw_at lw_m1 155 rfl) rfl
theorem q313 : (Jvm.Cond.laysFinal "TermLog$Node" "TermLog$Node" "ones" "[I") ∈ lw_all := lw_g (lw_at lw_m1 156 rfl) rfl
theorem q314 : (Jvm.Cond.soleField "TermLog$Node" "ones") ∈ lw_all := lw_g (lw_at lw_m1 157 rfl) rfl
theorem q315 : (Jvm.Cond.laysFinal "TermLog$Node" "TermLog$Node" "others" "[I") ∈ lw_all := lw_g (lw_at lw_m1 158 rfl) rfl
theorem q316 : (Jvm.Cond.soleField "TermLog$Node" "others") ∈ lw_all := lw_g (lw_at lw_m1 159 rfl) rfl
theorem q317 : (Jvm.Cond.laysFinal "TermLog$Node" "TermLog$Node" "keys" "[I") ∈ lw_all := lw_g (lw_at lw_m1 160 rfl) rfl
theorem q318 : (Jvm.Cond.soleField "TermLog$Node" "keys") ∈ lw_all := lw_g (lw_at lw_m1 161 rfl) rfl
theorem q319 : (Jvm.Cond.laysFinal "TermLog$Node" "TermLog$Node" "baseKeys" "[I") ∈ lw_all := lw_g (lw_at lw_m1 162 rfl) rfl
theorem q320 : (Jvm.Cond.soleField "TermLog$Node" "baseKeys") ∈ lw_all := lw_g (lw_at lw_m1 163 rfl) rfl
theorem q321 : (Jvm.Cond.laysFinal "TermLog$Node" "TermLog$Node" "next" "[I") ∈ lw_all := lw_g (lw_at lw_m1 164 rfl) rfl
theorem q322 : (Jvm.Cond.soleField "TermLog$Node" "next") ∈ lw_all := lw_g (lw_at lw_m1 165 rfl) rfl
theorem q323 : (Jvm.Cond.laysFinal "TermLog$Node" "TermLog$Node" "match" "[I") ∈ lw_all := lw_g (lw_at lw_m1 166 rfl) rfl
theorem q324 : (Jvm.Cond.soleField "TermLog$Node" "match") ∈ lw_all := lw_g (lw_at lw_m1 167 rfl) rfl
theorem q325 : (Jvm.Cond.laysFinal "TermLog$Node" "TermLog$Node" "heard" "[I") ∈ lw_all := lw_g (lw_at lw_m1 168 rfl) rfl
theorem q326 : (Jvm.Cond.soleField "TermLog$Node" "heard") ∈ lw_all := lw_g (lw_at lw_m1 169 rfl) rfl
theorem q327 : (Jvm.Cond.lays "TermLog$Node" "TermLog$Node" "term" "I") ∈ lw_all := lw_g (lw_at lw_m1 170 rfl) rfl
theorem q328 : (Jvm.Cond.soleField "TermLog$Node" "term") ∈ lw_all := lw_g (lw_at lw_m1 171 rfl) rfl
theorem q329 : (Jvm.Cond.lays "TermLog$Node" "TermLog$Node" "vote" "I") ∈ lw_all := lw_g (lw_at lw_m1 172 rfl) rfl
theorem q330 : (Jvm.Cond.soleField "TermLog$Node" "vote") ∈ lw_all := lw_g (lw_at lw_m1 173 rfl) rfl
theorem q331 : (Jvm.Cond.lays "TermLog$Node" "TermLog$Node" "base" "I") ∈ lw_all := lw_g (lw_at lw_m1 174 rfl) rfl
theorem q332 : (Jvm.Cond.soleField "TermLog$Node" "base") ∈ lw_all := lw_g (lw_at lw_m1 175 rfl) rfl
theorem q333 : (Jvm.Cond.lays "TermLog$Node" "TermLog$Node" "baseTerm" "I") ∈ lw_all := lw_g (lw_at lw_m1 176 rfl) rfl
theorem q334 : (Jvm.Cond.soleField "TermLog$Node" "baseTerm") ∈ lw_all := lw_g (lw_at lw_m1 177 rfl) rfl
theorem q335 : (Jvm.Cond.lays "TermLog$Node" "TermLog$Node" "baseOld" "I") ∈ lw_all := lw_g (lw_at lw_m1 178 rfl) rfl
theorem q336 : (Jvm.Cond.soleField "TermLog$Node" "baseOld") ∈ lw_all := lw_g (lw_at lw_m1 179 rfl) rfl
theorem q337 : (Jvm.Cond.lays "TermLog$Node" "TermLog$Node" "baseNew" "I") ∈ lw_all := lw_g (lw_at lw_m1 180 rfl) rfl
theorem q338 : (Jvm.Cond.soleField "TermLog$Node" "baseNew") ∈ lw_all := lw_g (lw_at lw_m1 181 rfl) rfl
theorem q339 : (Jvm.Cond.lays "TermLog$Node" "TermLog$Node" "many" "I") ∈ lw_all := lw_g (lw_at lw_m1 182 rfl) rfl
theorem q340 : (Jvm.Cond.soleField "TermLog$Node" "many") ∈ lw_all := lw_g (lw_at lw_m1 183 rfl) rfl
theorem q341 : (Jvm.Cond.lays "TermLog$Node" "TermLog$Node" "role" "I") ∈ lw_all := lw_g (lw_at lw_m1 184 rfl) rfl
theorem q342 : (Jvm.Cond.soleField "TermLog$Node" "role") ∈ lw_all := lw_g (lw_at lw_m1 185 rfl) rfl
theorem q343 : (Jvm.Cond.lays "TermLog$Node" "TermLog$Node" "commit" "I") ∈ lw_all := lw_g (lw_at lw_m1 186 rfl) rfl
theorem q344 : (Jvm.Cond.soleField "TermLog$Node" "commit") ∈ lw_all := lw_g (lw_at lw_m1 187 rfl) rfl
theorem q345 : (Jvm.Cond.lays "TermLog$Node" "TermLog$Node" "timer" "I") ∈ lw_all := lw_g (lw_at lw_m1 188 rfl) rfl
theorem q346 : (Jvm.Cond.soleField "TermLog$Node" "timer") ∈ lw_all := lw_g (lw_at lw_m1 189 rfl) rfl
theorem q347 : (Jvm.Cond.lays "TermLog$Node" "TermLog$Node" "known" "I") ∈ lw_all := lw_g (lw_at lw_m1 190 rfl) rfl
theorem q348 : (Jvm.Cond.soleField "TermLog$Node" "known") ∈ lw_all := lw_g (lw_at lw_m1 191 rfl) rfl
theorem q349 : (Jvm.Cond.lays "TermLog$Node" "TermLog$Node" "votes" "I") ∈ lw_all := lw_g (lw_at lw_m1 192 rfl) rfl
theorem q350 : (Jvm.Cond.soleField "TermLog$Node" "votes") ∈ lw_all := lw_g (lw_at lw_m1 193 rfl) rfl
theorem q351 : (Jvm.Cond.lays "TermLog$Node" "TermLog$Node" "round" "I") ∈ lw_all := lw_g (lw_at lw_m1 194 rfl) rfl
theorem q352 : (Jvm.Cond.soleField "TermLog$Node" "round") ∈ lw_all := lw_g (lw_at lw_m1 195 rfl) rfl
theorem q353 : (Jvm.Cond.lays "TermLog$Node" "TermLog$Node" "heart" "I") ∈ lw_all := lw_g (lw_at lw_m1 196 rfl) rfl
theorem q354 : (Jvm.Cond.soleField "TermLog$Node" "heart") ∈ lw_all := lw_g (lw_at lw_m1 197 rfl) rfl
theorem q355 : (Jvm.Cond.lays "TermLog$Node" "TermLog$Node" "isUp" "Z") ∈ lw_all := lw_g (lw_at lw_m1 198 rfl) rfl
theorem q356 : (Jvm.Cond.soleField "TermLog$Node" "isUp") ∈ lw_all := lw_g (lw_at lw_m1 199 rfl) rfl
theorem q357 : (Jvm.Cond.superclass "TermLog$Node" "java/lang/Object") ∈ lw_all := lw_g (lw_at lw_m1 200 rfl) rfl
theorem q458 : (Jvm.Cond.instanceMethod ({ cls := "TermLog$Node", name := "begins", desc := "(I)V" } : Jvm.MethodName)) ∈ lw_all := lw_g (lw_at lw_m2 61 rfl) rfl
theorem q459 : (Jvm.Cond.selects "TermLog$Node" ({ cls := "TermLog$Node", name := "begins", desc := "(I)V" } : Jvm.MethodName) ({ cls := "TermLog$Node", name := "begins", desc := "(I)V" } : Jvm.MethodName)) ∈ lw_all := lw_g (lw_at lw_m2 62 rfl) rfl
theorem q460 : (Jvm.Cond.code ({ cls := "TermLog$Node", name := "begins", desc := "(I)V" } : Jvm.MethodName) prog_8_method_3_code (3 : Nat) (Option.none : Option Jvm.ClassFile.FieldType)) ∈ lw_all := lw_g (lw_at lw_m2 63 rfl) rfl
theorem q461 : (Jvm.Cond.methodLink "TermLog$Node" (86 : Nat) ({ cls := "TermLog$Node", name := "comesUp", desc := "()V" } : Jvm.MethodName)) ∈ lw_all := lw_g (lw_at lw_m2 64 rfl) rfl
theorem q462 : (Jvm.Cond.instanceMethod ({ cls := "TermLog$Node", name := "comesUp", desc := "()V" } : Jvm.MethodName)) ∈ lw_all := lw_g (lw_at lw_m2 65 rfl) rfl
theorem q463 : (Jvm.Cond.selects "TermLog$Node" ({ cls := "TermLog$Node", name := "comesUp", desc := "()V" } : Jvm.MethodName) ({ cls := "TermLog$Node", name := "comesUp", desc := "()V" } : Jvm.MethodName)) ∈ lw_all := lw_g (lw_at lw_m2 66 rfl) rfl
theorem q464 : (Jvm.Cond.code ({ cls := "TermLog$Node", name := "comesUp", desc := "()V" } : Jvm.MethodName) prog_8_method_4_code (2 : Nat) (Option.none : Option Jvm.ClassFile.FieldType)) ∈ lw_all := lw_g (lw_at lw_m2 67 rfl) rfl
theorem q604 : (Jvm.Cond.instanceMethod ({ cls := "TermLog$Node", name := "compacts", desc := "()V" } : Jvm.MethodName)) ∈ lw_all := lw_g (lw_at lw_m2 207 rfl) rfl
theorem q605 : (Jvm.Cond.selects "TermLog$Node" ({ cls := "TermLog$Node", name := "compacts", desc := "()V" } : Jvm.MethodName) ({ cls := "TermLog$Node", name := "compacts", desc := "()V" } : Jvm.MethodName)) ∈ lw_all := lw_g (lw_at lw_m2 208 rfl) rfl
theorem q606 : (Jvm.Cond.code ({ cls := "TermLog$Node", name := "compacts", desc := "()V" } : Jvm.MethodName) prog_8_method_19_code (5 : Nat) (Option.none : Option Jvm.ClassFile.FieldType)) ∈ lw_all := lw_g (lw_at lw_m2 209 rfl) rfl
theorem q607 : (Jvm.Cond.methodLink "TermLog$Node" (97 : Nat) ({ cls := "TermLog$Node", name := "configAt", desc := "(I)I" } : Jvm.MethodName)) ∈ lw_all := lw_g (lw_at lw_m2 210 rfl) rfl
theorem q608 : (Jvm.Cond.instanceMethod ({ cls := "TermLog$Node", name := "configAt", desc := "(I)I" } : Jvm.MethodName)) ∈ lw_all := lw_g (lw_at lw_m2 211 rfl) rfl
theorem q609 : (Jvm.Cond.selects "TermLog$Node" ({ cls := "TermLog$Node", name := "configAt", desc := "(I)I" } : Jvm.MethodName) ({ cls := "TermLog$Node", name := "configAt", desc := "(I)I" } : Jvm.MethodName)) ∈ lw_all := lw_g (lw_at lw_m2 212 rfl) rfl
theorem q610 : (Jvm.Cond.code ({ cls := "TermLog$Node", name := "configAt", desc := "(I)I" } : Jvm.MethodName) prog_8_method_9_code (3 : Nat) (Option.some Jvm.ClassFile.FieldType.int)) ∈ lw_all := lw_g (lw_at lw_m2 213 rfl) rfl
theorem q611 : (Jvm.Cond.methodLink "TermLog$Node" (93 : Nat) ({ cls := "TermLog$Node", name := "kindAt", desc := "(I)I" } : Jvm.MethodName)) ∈ lw_all := lw_g (lw_at lw_m2 214 rfl) rfl
theorem q612 : (Jvm.Cond.instanceMethod ({ cls := "TermLog$Node", name := "kindAt", desc := "(I)I" } : Jvm.MethodName)) ∈ lw_all := lw_g (lw_at lw_m2 215 rfl) rfl
theorem q613 : (Jvm.Cond.selects "TermLog$Node" ({ cls := "TermLog$Node", name := "kindAt", desc := "(I)I" } : Jvm.MethodName) ({ cls := "TermLog$Node", name := "kindAt", desc := "(I)I" } : Jvm.MethodName)) ∈ lw_all := lw_g (lw_at lw_m2 216 rfl) rfl
theorem q614 : (Jvm.Cond.code ({ cls := "TermLog$Node", name := "kindAt", desc := "(I)I" } : Jvm.MethodName) prog_8_method_8_code (2 : Nat) (Option.some Jvm.ClassFile.FieldType.int)) ∈ lw_all := lw_g (lw_at lw_m2 217 rfl) rfl
theorem q615 : (Jvm.Cond.methodLink "TermLog$Node" (100 : Nat) ({ cls := "TermLog$Node", name := "oldAt", desc := "(I)I" } : Jvm.MethodName)) ∈ lw_all := lw_g (lw_at lw_m2 218 rfl) rfl
theorem q616 : (Jvm.Cond.instanceMethod ({ cls := "TermLog$Node", name := "oldAt", desc := "(I)I" } : Jvm.MethodName)) ∈ lw_all := lw_g (lw_at lw_m2 219 rfl) rfl
theorem q617 : (Jvm.Cond.selects "TermLog$Node" ({ cls := "TermLog$Node", name := "oldAt", desc := "(I)I" } : Jvm.MethodName) ({ cls := "TermLog$Node", name := "oldAt", desc := "(I)I" } : Jvm.MethodName)) ∈ lw_all := lw_g (lw_at lw_m2 220 rfl) rfl
theorem q618 : (Jvm.Cond.code ({ cls := "TermLog$Node", name := "oldAt", desc := "(I)I" } : Jvm.MethodName) prog_8_method_10_code (2 : Nat) (Option.some Jvm.ClassFile.FieldType.int)) ∈ lw_all := lw_g (lw_at lw_m2 221 rfl) rfl
theorem q619 : (Jvm.Cond.methodLink "TermLog$Node" (103 : Nat) ({ cls := "TermLog$Node", name := "newAt", desc := "(I)I" } : Jvm.MethodName)) ∈ lw_all := lw_g (lw_at lw_m2 222 rfl) rfl
theorem q620 : (Jvm.Cond.instanceMethod ({ cls := "TermLog$Node", name := "newAt", desc := "(I)I" } : Jvm.MethodName)) ∈ lw_all := lw_g (lw_at lw_m2 223 rfl) rfl
theorem q621 : (Jvm.Cond.selects "TermLog$Node" ({ cls := "TermLog$Node", name := "newAt", desc := "(I)I" } : Jvm.MethodName) ({ cls := "TermLog$Node", name := "newAt", desc := "(I)I" } : Jvm.MethodName)) ∈ lw_all := lw_g (lw_at lw_m2 224 rfl) rfl
theorem q622 : (Jvm.Cond.code ({ cls := "TermLog$Node", name := "newAt", desc := "(I)I" } : Jvm.MethodName) prog_8_method_11_code (2 : Nat) (Option.some Jvm.ClassFile.FieldType.int)) ∈ lw_all := lw_g (lw_at lw_m2 225 rfl) rfl
theorem q623 : (Jvm.Cond.methodLink "TermLog$Node" (121 : Nat) ({ cls := "TermLog$Node", name := "termAt", desc := "(I)I" } : Jvm.MethodName)) ∈ lw_all := lw_g (lw_at lw_m2 226 rfl) rfl
theorem q624 : (Jvm.Cond.instanceMethod ({ cls := "TermLog$Node", name := "termAt", desc := "(I)I" } : Jvm.MethodName)) ∈ lw_all := lw_g (lw_at lw_m2 227 rfl) rfl
theorem q625 : (Jvm.Cond.selects "TermLog$Node" ({ cls := "TermLog$Node", name := "termAt", desc := "(I)I" } : Jvm.MethodName) ({ cls := "TermLog$Node", name := "termAt", desc := "(I)I" } : Jvm.MethodName)) ∈ lw_all := lw_g (lw_at lw_m2 228 rfl) rfl
theorem q626 : (Jvm.Cond.code ({ cls := "TermLog$Node", name := "termAt", desc := "(I)I" } : Jvm.MethodName) prog_8_method_7_code (2 : Nat) (Option.some Jvm.ClassFile.FieldType.int)) ∈ lw_all := lw_g (lw_at lw_m2 229 rfl) rfl
theorem q627 : (Jvm.Cond.methodLink "TermLog$Node" (124 : Nat) ({ cls := "TermLog$Node", name := "goes", desc := "(I)V" } : Jvm.MethodName)) ∈ lw_all := lw_g (lw_at lw_m2 230 rfl) rfl
theorem q628 : (Jvm.Cond.privateMethod ({ cls := "TermLog$Node", name := "goes", desc := "(I)V" } : Jvm.MethodName)) ∈ lw_tbl := lw_at lw_m2 231 rfl
theorem q629 : (Jvm.Cond.instanceMethod ({ cls := "TermLog$Node", name := "goes", desc := "(I)V" } : Jvm.MethodName)) ∈ lw_all := lw_g (lw_at lw_m2 232 rfl) rfl
theorem q630 : (Jvm.Cond.code ({ cls := "TermLog$Node", name := "goes", desc := "(I)V" } : Jvm.MethodName) prog_8_method_18_code (3 : Nat) (Option.none : Option Jvm.ClassFile.FieldType)) ∈ lw_all := lw_g (lw_at lw_m2 233 rfl) rfl
theorem q644 : (Jvm.Cond.instanceMethod ({ cls := "TermLog$Node", name := "last", desc := "()I" } : Jvm.MethodName)) ∈ lw_all := lw_g (lw_at lw_m3 7 rfl) rfl
theorem q645 : (Jvm.Cond.selects "TermLog$Node" ({ cls := "TermLog$Node", name := "last", desc := "()I" } : Jvm.MethodName) ({ cls := "TermLog$Node", name := "last", desc := "()I" } : Jvm.MethodName)) ∈ lw_all := lw_g (lw_at lw_m3 8 rfl) rfl
theorem q646 : (Jvm.Cond.code ({ cls := "TermLog$Node", name := "last", desc := "()I" } : Jvm.MethodName) prog_8_method_5_code (1 : Nat) (Option.some Jvm.ClassFile.FieldType.int)) ∈ lw_all := lw_g (lw_at lw_m3 9 rfl) rfl
theorem q652 : (Jvm.Cond.instanceMethod ({ cls := "TermLog$Node", name := "lays", desc := "(IIII)Z" } : Jvm.MethodName)) ∈ lw_all := lw_g (lw_at lw_m3 15 rfl) rfl
theorem q653 : (Jvm.Cond.selects "TermLog$Node" ({ cls := "TermLog$Node", name := "lays", desc := "(IIII)Z" } : Jvm.MethodName) ({ cls := "TermLog$Node", name := "lays", desc := "(IIII)Z" } : Jvm.MethodName)) ∈ lw_all := lw_g (lw_at lw_m3 16 rfl) rfl
theorem q654 : (Jvm.Cond.code ({ cls := "TermLog$Node", name := "lays", desc := "(IIII)Z" } : Jvm.MethodName) prog_8_method_20_code (5 : Nat) (Option.some Jvm.ClassFile.FieldType.boolean)) ∈ lw_all := lw_g (lw_at lw_m3 17 rfl) rfl
theorem q655 : (Jvm.Cond.methodLink "TermLog$Node" (128 : Nat) ({ cls := "TermLog$Node", name := "compacts", desc := "()V" } : Jvm.MethodName)) ∈ lw_all := lw_g (lw_at lw_m3 18 rfl) rfl
theorem q656 : (Jvm.Cond.methodLink "TermLog$Node" (89 : Nat) ({ cls := "TermLog$Node", name := "last", desc := "()I" } : Jvm.MethodName)) ∈ lw_all := lw_g (lw_at lw_m3 19 rfl) rfl
theorem q662 : (Jvm.Cond.instanceMethod ({ cls := "TermLog$Node", name := "members", desc := "()I" } : Jvm.MethodName)) ∈ lw_all := lw_g (lw_at lw_m3 25 rfl) rfl
theorem q663 : (Jvm.Cond.selects "TermLog$Node" ({ cls := "TermLog$Node", name := "members", desc := "()I" } : Jvm.MethodName) ({ cls := "TermLog$Node", name := "members", desc := "()I" } : Jvm.MethodName)) ∈ lw_all := lw_g (lw_at lw_m3 26 rfl) rfl
theorem q664 : (Jvm.Cond.code ({ cls := "TermLog$Node", name := "members", desc := "()I" } : Jvm.MethodName) prog_8_method_14_code (1 : Nat) (Option.some Jvm.ClassFile.FieldType.int)) ∈ lw_all := lw_g (lw_at lw_m3 27 rfl) rfl
theorem q665 : (Jvm.Cond.methodLink "TermLog$Node" (106 : Nat) ({ cls := "TermLog$Node", name := "olds", desc := "()I" } : Jvm.MethodName)) ∈ lw_all := lw_g (lw_at lw_m3 28 rfl) rfl
theorem q666 : (Jvm.Cond.instanceMethod ({ cls := "TermLog$Node", name := "olds", desc := "()I" } : Jvm.MethodName)) ∈ lw_all := lw_g (lw_at lw_m3 29 rfl) rfl
theorem q667 : (Jvm.Cond.selects "TermLog$Node" ({ cls := "TermLog$Node", name := "olds", desc := "()I" } : Jvm.MethodName) ({ cls := "TermLog$Node", name := "olds", desc := "()I" } : Jvm.MethodName)) ∈ lw_all := lw_g (lw_at lw_m3 30 rfl) rfl
theorem q668 : (Jvm.Cond.code ({ cls := "TermLog$Node", name := "olds", desc := "()I" } : Jvm.MethodName) prog_8_method_12_code (1 : Nat) (Option.some Jvm.ClassFile.FieldType.int)) ∈ lw_all := lw_g (lw_at lw_m3 31 rfl) rfl
theorem q669 : (Jvm.Cond.methodLink "TermLog$Node" (109 : Nat) ({ cls := "TermLog$Node", name := "news", desc := "()I" } : Jvm.MethodName)) ∈ lw_all := lw_g (lw_at lw_m3 32 rfl) rfl
theorem q670 : (Jvm.Cond.instanceMethod ({ cls := "TermLog$Node", name := "news", desc := "()I" } : Jvm.MethodName)) ∈ lw_all := lw_g (lw_at lw_m3 33 rfl) rfl
theorem q671 : (Jvm.Cond.selects "TermLog$Node" ({ cls := "TermLog$Node", name := "news", desc := "()I" } : Jvm.MethodName) ({ cls := "TermLog$Node", name := "news", desc := "()I" } : Jvm.MethodName)) ∈ lw_all := lw_g (lw_at lw_m3 34 rfl) rfl
theorem q672 : (Jvm.Cond.code ({ cls := "TermLog$Node", name := "news", desc := "()I" } : Jvm.MethodName) prog_8_method_13_code (1 : Nat) (Option.some Jvm.ClassFile.FieldType.int)) ∈ lw_all := lw_g (lw_at lw_m3 35 rfl) rfl
theorem q716 : (Jvm.Cond.instanceMethod ({ cls := "TermLog$Node", name := "isMajority", desc := "(I)Z" } : Jvm.MethodName)) ∈ lw_all := lw_g (lw_at lw_m3 79 rfl) rfl
theorem q717 : (Jvm.Cond.selects "TermLog$Node" ({ cls := "TermLog$Node", name := "isMajority", desc := "(I)Z" } : Jvm.MethodName) ({ cls := "TermLog$Node", name := "isMajority", desc := "(I)Z" } : Jvm.MethodName)) ∈ lw_all := lw_g (lw_at lw_m3 80 rfl) rfl
theorem q718 : (Jvm.Cond.code ({ cls := "TermLog$Node", name := "isMajority", desc := "(I)Z" } : Jvm.MethodName) prog_8_method_16_code (2 : Nat) (Option.some Jvm.ClassFile.FieldType.boolean)) ∈ lw_all := lw_g (lw_at lw_m3 81 rfl) rfl
theorem q719 : (Jvm.Cond.methodLink "TermLog$Node" (117 : Nat) ({ cls := "TermLog$Node", name := "isMore", desc := "(II)Z" } : Jvm.MethodName)) ∈ lw_all := lw_g (lw_at lw_m3 82 rfl) rfl
theorem q720 : (Jvm.Cond.static ({ cls := "TermLog$Node", name := "isMore", desc := "(II)Z" } : Jvm.MethodName)) ∈ lw_all := lw_g (lw_at lw_m3 83 rfl) rfl
theorem q721 : (Jvm.Cond.code ({ cls := "TermLog$Node", name := "isMore", desc := "(II)Z" } : Jvm.MethodName) prog_8_method_15_code (2 : Nat) (Option.some Jvm.ClassFile.FieldType.boolean)) ∈ lw_all := lw_g (lw_at lw_m3 84 rfl) rfl
theorem q722 : (Jvm.Cond.methodLink "TermLog$Node" (112 : Nat) ({ cls := "java/lang/Integer", name := "bitCount", desc := "(I)I" } : Jvm.MethodName)) ∈ lw_all := lw_g (lw_at lw_m3 85 rfl) rfl
theorem q737 : (Jvm.Cond.instanceMethod ({ cls := "TermLog$Node", name := "isConfigHeld", desc := "()Z" } : Jvm.MethodName)) ∈ lw_all := lw_g (lw_at lw_m3 100 rfl) rfl
theorem q738 : (Jvm.Cond.selects "TermLog$Node" ({ cls := "TermLog$Node", name := "isConfigHeld", desc := "()Z" } : Jvm.MethodName) ({ cls := "TermLog$Node", name := "isConfigHeld", desc := "()Z" } : Jvm.MethodName)) ∈ lw_all := lw_g (lw_at lw_m3 101 rfl) rfl
theorem q739 : (Jvm.Cond.code ({ cls := "TermLog$Node", name := "isConfigHeld", desc := "()Z" } : Jvm.MethodName) prog_8_method_17_code (1 : Nat) (Option.some Jvm.ClassFile.FieldType.boolean)) ∈ lw_all := lw_g (lw_at lw_m3 102 rfl) rfl
theorem q1156 : (Jvm.Cond.instanceMethod ({ cls := "TermLog$Node", name := "isNoLess", desc := "(II)Z" } : Jvm.MethodName)) ∈ lw_all := lw_g (lw_at lw_m5 39 rfl) rfl
theorem q1157 : (Jvm.Cond.selects "TermLog$Node" ({ cls := "TermLog$Node", name := "isNoLess", desc := "(II)Z" } : Jvm.MethodName) ({ cls := "TermLog$Node", name := "isNoLess", desc := "(II)Z" } : Jvm.MethodName)) ∈ lw_all := lw_g (lw_at lw_m5 40 rfl) rfl
theorem q1158 : (Jvm.Cond.code ({ cls := "TermLog$Node", name := "isNoLess", desc := "(II)Z" } : Jvm.MethodName) prog_8_method_21_code (3 : Nat) (Option.some Jvm.ClassFile.FieldType.boolean)) ∈ lw_all := lw_g (lw_at lw_m5 41 rfl) rfl
theorem q1176 : (Jvm.Cond.instanceMethod ({ cls := "TermLog$Node", name := "firstOfTerm", desc := "(I)I" } : Jvm.MethodName)) ∈ lw_all := lw_g (lw_at lw_m5 59 rfl) rfl
theorem q1177 : (Jvm.Cond.selects "TermLog$Node" ({ cls := "TermLog$Node", name := "firstOfTerm", desc := "(I)I" } : Jvm.MethodName) ({ cls := "TermLog$Node", name := "firstOfTerm", desc := "(I)I" } : Jvm.MethodName)) ∈ lw_all := lw_g (lw_at lw_m5 60 rfl) rfl
theorem q1178 : (Jvm.Cond.code ({ cls := "TermLog$Node", name := "firstOfTerm", desc := "(I)I" } : Jvm.MethodName) prog_8_method_22_code (3 : Nat) (Option.some Jvm.ClassFile.FieldType.int)) ∈ lw_all := lw_g (lw_at lw_m5 61 rfl) rfl
theorem q1179 : (Jvm.Cond.methodLink "TermLog$Node" (131 : Nat) ({ cls := "java/lang/Math", name := "max", desc := "(II)I" } : Jvm.MethodName)) ∈ lw_all := lw_g (lw_at lw_m5 62 rfl) rfl
theorem q1185 : (Jvm.Cond.instanceMethod ({ cls := "TermLog$Node", name := "hasEntry", desc := "(I)Z" } : Jvm.MethodName)) ∈ lw_all := lw_g (lw_at lw_m5 68 rfl) rfl
theorem q1186 : (Jvm.Cond.selects "TermLog$Node" ({ cls := "TermLog$Node", name := "hasEntry", desc := "(I)Z" } : Jvm.MethodName) ({ cls := "TermLog$Node", name := "hasEntry", desc := "(I)Z" } : Jvm.MethodName)) ∈ lw_all := lw_g (lw_at lw_m5 69 rfl) rfl
theorem q1187 : (Jvm.Cond.code ({ cls := "TermLog$Node", name := "hasEntry", desc := "(I)Z" } : Jvm.MethodName) prog_8_method_6_code (2 : Nat) (Option.some Jvm.ClassFile.FieldType.boolean)) ∈ lw_all := lw_g (lw_at lw_m5 70 rfl) rfl
theorem q1234 : (Jvm.Cond.instanceMethod ({ cls := "TermLog$Node", name := "takes", desc := "(LTermLog$Node;)V" } : Jvm.MethodName)) ∈ lw_all := lw_g (lw_at lw_m5 117 rfl) rfl
theorem q1235 : (Jvm.Cond.selects "TermLog$Node" ({ cls := "TermLog$Node", name := "takes", desc := "(LTermLog$Node;)V" } : Jvm.MethodName) ({ cls := "TermLog$Node", name := "takes", desc := "(LTermLog$Node;)V" } : Jvm.MethodName)) ∈ lw_all := lw_g (lw_at lw_m5 118 rfl) rfl
theorem q1236 : (Jvm.Cond.code ({ cls := "TermLog$Node", name := "takes", desc := "(LTermLog$Node;)V" } : Jvm.MethodName) prog_8_method_2_code (3 : Nat) (Option.none : Option Jvm.ClassFile.FieldType)) ∈ lw_all := lw_g (lw_at lw_m5 119 rfl) rfl
theorem q1292 : (Jvm.Cond.instanceMethod ({ cls := "TermLog$Node", name := "isAlike", desc := "(LTermLog$Node;I)Z" } : Jvm.MethodName)) ∈ lw_all := lw_g (lw_at lw_m5 175 rfl) rfl
theorem q1293 : (Jvm.Cond.selects "TermLog$Node" ({ cls := "TermLog$Node", name := "isAlike", desc := "(LTermLog$Node;I)Z" } : Jvm.MethodName) ({ cls := "TermLog$Node", name := "isAlike", desc := "(LTermLog$Node;I)Z" } : Jvm.MethodName)) ∈ lw_all := lw_g (lw_at lw_m5 176 rfl) rfl
theorem q1294 : (Jvm.Cond.code ({ cls := "TermLog$Node", name := "isAlike", desc := "(LTermLog$Node;I)Z" } : Jvm.MethodName) prog_8_method_23_code (3 : Nat) (Option.some Jvm.ClassFile.FieldType.boolean)) ∈ lw_all := lw_g (lw_at lw_m5 177 rfl) rfl
theorem in_X4 : ∀ w ∈ wsX40, w ∈ lw_all := lw_in wsX40 [309, 311, 313, 315, 317, 319, 321, 323, 325, 327, 329, 331, 333, 335, 337, 339, 341, 343, 345, 347, 349, 351, 353, 355] (by decide +kernel) (by decide +kernel)
/-! TermLog$Cluster -/
set_option maxRecDepth 100000
def RX3 : String := "TermLog$Cluster"
def TX3 : u_T := fun k => match k with
  | 0 => ("TermLog$Cluster", "nodes", "[LTermLog$Node;", true)
  | 1 => ("TermLog$Cluster", "sent", "[[I", true)
  | 2 => ("TermLog$Cluster", "heldEntries", "[[I", true)
  | 3 => ("TermLog$Cluster", "reads", "[[I", true)
  | 4 => ("TermLog$Cluster", "cuts", "[I", true)
  | 5 => ("TermLog$Cluster", "ledBy", "[I", true)
  | 6 => ("TermLog$Cluster", "carried", "[I", true)
  | 7 => ("TermLog$Cluster", "many", "I", false)
  | 8 => ("TermLog$Cluster", "tick", "I", false)
  | 9 => ("TermLog$Cluster", "x", "I", false)
  | 10 => ("TermLog$Cluster", "broken", "I", false)
  | 11 => ("TermLog$Cluster", "lost", "I", false)
  | 12 => ("TermLog$Cluster", "greatest", "I", false)
  | 13 => ("TermLog$Cluster", "heldNow", "I", false)
  | 14 => ("TermLog$Cluster", "asked", "I", false)
  | 15 => ("TermLog$Cluster", "handed", "[I", true)
  | _ => ("TermLog$Cluster", "this$0", "LTermLog;", true)
def tyX3 : Nat → FieldType := fun k => match k with
  | 0 => .array (.object "TermLog$Node")
  | 1 => .array (.array .int)
  | 2 => .array (.array .int)
  | 3 => .array (.array .int)
  | 4 => .array .int
  | 5 => .array .int
  | 6 => .array .int
  | 7 => .int
  | 8 => .int
  | 9 => .int
  | 10 => .int
  | 11 => .int
  | 12 => .int
  | 13 => .int
  | 14 => .int
  | 15 => .array .int
  | _ => .object "TermLog"
abbrev wsX30 : List Cond := u_ws RX3 TX3 17
set_option maxRecDepth 100000 in
theorem nmX3 : ∀ a, a < 17 → ∀ b, b < 17 → a ≠ b → (TX3 a).2.1 ≠ (TX3 b).2.1 := by decide +kernel
set_option maxRecDepth 100000 in
theorem tyX3_ok : ∀ k, k < 17 → parseFieldDescriptor (TX3 k).2.2.1 = some (tyX3 k) := by decide +kernel
abbrev cX3_init : ByteArray := prog_3_method_1_code
def yX3_init : MethodName := ⟨RX3, "<init>", "(LTermLog;)V"⟩
def dkwX3_init_4 : List UInt8 := [42, 180, 0, 17, 28, 187, 0, 15, 89, 183, 0, 45, 83, 132, 2, 1, 167, 255, 234, 177]
abbrev dktX3_init_4 : List UInt8 := dkwX3_init_4 ++ []
def dkwX3_init_3 : List UInt8 := [42, 16, 32, 188, 10, 181, 0, 39, 42, 16, 32, 188, 10, 181, 0, 42, 3, 61, 28, 16, 7, 162, 0, 22]
abbrev dktX3_init_3 : List UInt8 := dkwX3_init_3 ++ dktX3_init_4
def dkwX3_init_2 : List UInt8 := [197, 0, 21, 2, 181, 0, 29, 42, 16, 7, 188, 10, 181, 0, 32, 42, 17, 3, 232, 188, 10, 181, 0, 36]
abbrev dktX3_init_2 : List UInt8 := dkwX3_init_2 ++ dktX3_init_3
def dkwX3_init_1 : List UInt8 := [197, 0, 21, 2, 181, 0, 23, 42, 17, 3, 232, 7, 197, 0, 21, 2, 181, 0, 26, 42, 16, 16, 16, 6]
abbrev dktX3_init_1 : List UInt8 := dkwX3_init_1 ++ dktX3_init_2
def dkwX3_init_0 : List UInt8 := [42, 43, 181, 0, 3, 42, 183, 0, 9, 42, 16, 7, 189, 0, 15, 181, 0, 17, 42, 17, 0, 160, 16, 32]
abbrev dktX3_init_0 : List UInt8 := dkwX3_init_0 ++ dktX3_init_1
theorem dksX3_init_0 : cX3_init.data.toList.drop 0 = dktX3_init_0 := by decide +kernel
theorem dksX3_init_1 : cX3_init.data.toList.drop 24 = dktX3_init_1 := dk_seg dksX3_init_0 24 rfl rfl
theorem dksX3_init_2 : cX3_init.data.toList.drop 48 = dktX3_init_2 := dk_seg dksX3_init_1 24 rfl rfl
theorem dksX3_init_3 : cX3_init.data.toList.drop 72 = dktX3_init_3 := dk_seg dksX3_init_2 24 rfl rfl
theorem dksX3_init_4 : cX3_init.data.toList.drop 96 = dktX3_init_4 := dk_seg dksX3_init_3 24 rfl rfl
theorem dX3_init_0 : decode cX3_init 0 = .ok (.aload_n 0, 1) := dk_42 (dk_at dksX3_init_0 0 rfl rfl)
theorem dX3_init_1 : decode cX3_init 1 = .ok (.aload_n 1, 1) := dk_43 (dk_at dksX3_init_0 1 rfl rfl)
theorem dX3_init_2 : decode cX3_init 2 = .ok (.putfield 3, 3) := dk_181 0 3 (dk_at dksX3_init_0 2 rfl rfl)
theorem dX3_init_5 : decode cX3_init 5 = .ok (.aload_n 0, 1) := dk_42 (dk_at dksX3_init_0 5 rfl rfl)
theorem dX3_init_6 : decode cX3_init 6 = .ok (.invokespecial 9, 3) := dk_183 0 9 (dk_at dksX3_init_0 6 rfl rfl)
theorem dX3_init_9 : decode cX3_init 9 = .ok (.aload_n 0, 1) := dk_42 (dk_at dksX3_init_0 9 rfl rfl)
theorem dX3_init_10 : decode cX3_init 10 = .ok (.bipush 7, 2) := dk_16 7 (dk_at dksX3_init_0 10 rfl rfl)
theorem dX3_init_12 : decode cX3_init 12 = .ok (.anewarray 15, 3) := dk_189 0 15 (dk_at dksX3_init_0 12 rfl rfl)
theorem dX3_init_15 : decode cX3_init 15 = .ok (.putfield 17, 3) := dk_181 0 17 (dk_at dksX3_init_0 15 rfl rfl)
theorem dX3_init_18 : decode cX3_init 18 = .ok (.aload_n 0, 1) := dk_42 (dk_at dksX3_init_0 18 rfl rfl)
theorem dX3_init_19 : decode cX3_init 19 = .ok (.sipush 160, 3) := dk_17 0 160 (dk_at dksX3_init_0 19 rfl rfl)
theorem dX3_init_22 : decode cX3_init 22 = .ok (.bipush 32, 2) := dk_16 32 (dk_at dksX3_init_0 22 rfl rfl)
theorem dX3_init_24 : decode cX3_init 24 = .ok (.multianewarray 21 2, 4) := by decide +kernel
theorem dX3_init_28 : decode cX3_init 28 = .ok (.putfield 23, 3) := dk_181 0 23 (dk_at dksX3_init_1 4 rfl rfl)
theorem dX3_init_31 : decode cX3_init 31 = .ok (.aload_n 0, 1) := dk_42 (dk_at dksX3_init_1 7 rfl rfl)
theorem dX3_init_32 : decode cX3_init 32 = .ok (.sipush 1000, 3) := dk_17 3 232 (dk_at dksX3_init_1 8 rfl rfl)
theorem dX3_init_35 : decode cX3_init 35 = .ok (.iconst 4, 1) := dk_7 (dk_at dksX3_init_1 11 rfl rfl)
theorem dX3_init_36 : decode cX3_init 36 = .ok (.multianewarray 21 2, 4) := by decide +kernel
theorem dX3_init_40 : decode cX3_init 40 = .ok (.putfield 26, 3) := dk_181 0 26 (dk_at dksX3_init_1 16 rfl rfl)
theorem dX3_init_43 : decode cX3_init 43 = .ok (.aload_n 0, 1) := dk_42 (dk_at dksX3_init_1 19 rfl rfl)
theorem dX3_init_44 : decode cX3_init 44 = .ok (.bipush 16, 2) := dk_16 16 (dk_at dksX3_init_1 20 rfl rfl)
theorem dX3_init_46 : decode cX3_init 46 = .ok (.bipush 6, 2) := dk_16 6 (dk_at dksX3_init_1 22 rfl rfl)
theorem dX3_init_48 : decode cX3_init 48 = .ok (.multianewarray 21 2, 4) := by decide +kernel
theorem dX3_init_52 : decode cX3_init 52 = .ok (.putfield 29, 3) := dk_181 0 29 (dk_at dksX3_init_2 4 rfl rfl)
theorem dX3_init_55 : decode cX3_init 55 = .ok (.aload_n 0, 1) := dk_42 (dk_at dksX3_init_2 7 rfl rfl)
theorem dX3_init_56 : decode cX3_init 56 = .ok (.bipush 7, 2) := dk_16 7 (dk_at dksX3_init_2 8 rfl rfl)
theorem dX3_init_58 : decode cX3_init 58 = .ok (.newarray .int, 2) := dk_188_10 (dk_at dksX3_init_2 10 rfl rfl)
theorem dX3_init_60 : decode cX3_init 60 = .ok (.putfield 32, 3) := dk_181 0 32 (dk_at dksX3_init_2 12 rfl rfl)
theorem dX3_init_63 : decode cX3_init 63 = .ok (.aload_n 0, 1) := dk_42 (dk_at dksX3_init_2 15 rfl rfl)
theorem dX3_init_64 : decode cX3_init 64 = .ok (.sipush 1000, 3) := dk_17 3 232 (dk_at dksX3_init_2 16 rfl rfl)
theorem dX3_init_67 : decode cX3_init 67 = .ok (.newarray .int, 2) := dk_188_10 (dk_at dksX3_init_2 19 rfl rfl)
theorem dX3_init_69 : decode cX3_init 69 = .ok (.putfield 36, 3) := dk_181 0 36 (dk_at dksX3_init_2 21 rfl rfl)
theorem dX3_init_72 : decode cX3_init 72 = .ok (.aload_n 0, 1) := dk_42 (dk_at dksX3_init_3 0 rfl rfl)
theorem dX3_init_73 : decode cX3_init 73 = .ok (.bipush 32, 2) := dk_16 32 (dk_at dksX3_init_3 1 rfl rfl)
theorem dX3_init_75 : decode cX3_init 75 = .ok (.newarray .int, 2) := dk_188_10 (dk_at dksX3_init_3 3 rfl rfl)
theorem dX3_init_77 : decode cX3_init 77 = .ok (.putfield 39, 3) := dk_181 0 39 (dk_at dksX3_init_3 5 rfl rfl)
theorem dX3_init_80 : decode cX3_init 80 = .ok (.aload_n 0, 1) := dk_42 (dk_at dksX3_init_3 8 rfl rfl)
theorem dX3_init_81 : decode cX3_init 81 = .ok (.bipush 32, 2) := dk_16 32 (dk_at dksX3_init_3 9 rfl rfl)
theorem dX3_init_83 : decode cX3_init 83 = .ok (.newarray .int, 2) := dk_188_10 (dk_at dksX3_init_3 11 rfl rfl)
theorem dX3_init_85 : decode cX3_init 85 = .ok (.putfield 42, 3) := dk_181 0 42 (dk_at dksX3_init_3 13 rfl rfl)
theorem dX3_init_88 : decode cX3_init 88 = .ok (.iconst 0, 1) := dk_3 (dk_at dksX3_init_3 16 rfl rfl)
theorem dX3_init_89 : decode cX3_init 89 = .ok (.istore_n 2, 1) := dk_61 (dk_at dksX3_init_3 17 rfl rfl)
theorem dX3_init_90 : decode cX3_init 90 = .ok (.iload_n 2, 1) := dk_28 (dk_at dksX3_init_3 18 rfl rfl)
theorem dX3_init_91 : decode cX3_init 91 = .ok (.bipush 7, 2) := dk_16 7 (dk_at dksX3_init_3 19 rfl rfl)
theorem dX3_init_93 : decode cX3_init 93 = .ok (.if_icmp .ge 22, 3) := dk_162 0 22 (dk_at dksX3_init_3 21 rfl rfl)
theorem dX3_init_96 : decode cX3_init 96 = .ok (.aload_n 0, 1) := dk_42 (dk_at dksX3_init_4 0 rfl rfl)
theorem dX3_init_97 : decode cX3_init 97 = .ok (.getfield 17, 3) := dk_180 0 17 (dk_at dksX3_init_4 1 rfl rfl)
theorem dX3_init_100 : decode cX3_init 100 = .ok (.iload_n 2, 1) := dk_28 (dk_at dksX3_init_4 4 rfl rfl)
theorem dX3_init_101 : decode cX3_init 101 = .ok (.new 15, 3) := dk_187 0 15 (dk_at dksX3_init_4 5 rfl rfl)
theorem dX3_init_104 : decode cX3_init 104 = .ok (.dup, 1) := dk_89 (dk_at dksX3_init_4 8 rfl rfl)
theorem dX3_init_105 : decode cX3_init 105 = .ok (.invokespecial 45, 3) := dk_183 0 45 (dk_at dksX3_init_4 9 rfl rfl)
theorem dX3_init_108 : decode cX3_init 108 = .ok (.aastore, 1) := dk_83 (dk_at dksX3_init_4 12 rfl rfl)
theorem dX3_init_109 : decode cX3_init 109 = .ok (.iinc 2 1, 3) := dk_132 2 1 (dk_at dksX3_init_4 13 rfl rfl)
theorem dX3_init_112 : decode cX3_init 112 = .ok (.goto (-22), 3) := dk_167 255 234 (dk_at dksX3_init_4 16 rfl rfl)
theorem dX3_init_115 : decode cX3_init 115 = .ok (.return_, 1) := dk_177 (dk_at dksX3_init_4 19 rfl rfl)
abbrev cX3_founded : ByteArray := prog_3_method_4_code
def yX3_founded : MethodName := ⟨RX3, "founded", "(I)V"⟩
def dkwX3_founded_4 : List UInt8 := [28, 182, 0, 80, 132, 2, 1, 167, 255, 242, 177]
abbrev dktX3_founded_4 : List UInt8 := dkwX3_founded_4 ++ []
def dkwX3_founded_3 : List UInt8 := [180, 0, 17, 28, 50, 27, 182, 0, 76, 132, 2, 1, 167, 255, 230, 3, 61, 28, 16, 7, 162, 0, 14, 42]
abbrev dktX3_founded_3 : List UInt8 := dkwX3_founded_3 ++ dktX3_founded_4
def dkwX3_founded_2 : List UInt8 := [132, 2, 1, 167, 255, 239, 3, 61, 28, 16, 7, 162, 0, 26, 42, 180, 0, 32, 28, 3, 79, 42]
abbrev dktX3_founded_2 : List UInt8 := dkwX3_founded_2 ++ dktX3_founded_3
def dkwX3_founded_1 : List UInt8 := [181, 0, 58, 42, 3, 181, 0, 61, 3, 61, 28, 17, 3, 232, 162, 0, 16, 42, 180, 0, 36, 28, 2, 79]
abbrev dktX3_founded_1 : List UInt8 := dkwX3_founded_1 ++ dktX3_founded_2
def dkwX3_founded_0 : List UInt8 := [42, 3, 181, 0, 50, 42, 3, 181, 0, 64, 42, 3, 181, 0, 70, 42, 3, 181, 0, 73, 42, 3]
abbrev dktX3_founded_0 : List UInt8 := dkwX3_founded_0 ++ dktX3_founded_1
theorem dksX3_founded_0 : cX3_founded.data.toList.drop 0 = dktX3_founded_0 := by decide +kernel
theorem dksX3_founded_1 : cX3_founded.data.toList.drop 22 = dktX3_founded_1 := dk_seg dksX3_founded_0 22 rfl rfl
theorem dksX3_founded_2 : cX3_founded.data.toList.drop 46 = dktX3_founded_2 := dk_seg dksX3_founded_1 24 rfl rfl
theorem dksX3_founded_3 : cX3_founded.data.toList.drop 68 = dktX3_founded_3 := dk_seg dksX3_founded_2 22 rfl rfl
theorem dksX3_founded_4 : cX3_founded.data.toList.drop 92 = dktX3_founded_4 := dk_seg dksX3_founded_3 24 rfl rfl
theorem dX3_founded_0 : decode cX3_founded 0 = .ok (.aload_n 0, 1) := dk_42 (dk_at dksX3_founded_0 0 rfl rfl)
theorem dX3_founded_1 : decode cX3_founded 1 = .ok (.iconst 0, 1) := dk_3 (dk_at dksX3_founded_0 1 rfl rfl)
theorem dX3_founded_2 : decode cX3_founded 2 = .ok (.putfield 50, 3) := dk_181 0 50 (dk_at dksX3_founded_0 2 rfl rfl)
theorem dX3_founded_5 : decode cX3_founded 5 = .ok (.aload_n 0, 1) := dk_42 (dk_at dksX3_founded_0 5 rfl rfl)
theorem dX3_founded_6 : decode cX3_founded 6 = .ok (.iconst 0, 1) := dk_3 (dk_at dksX3_founded_0 6 rfl rfl)
theorem dX3_founded_7 : decode cX3_founded 7 = .ok (.putfield 64, 3) := dk_181 0 64 (dk_at dksX3_founded_0 7 rfl rfl)
theorem dX3_founded_10 : decode cX3_founded 10 = .ok (.aload_n 0, 1) := dk_42 (dk_at dksX3_founded_0 10 rfl rfl)
theorem dX3_founded_11 : decode cX3_founded 11 = .ok (.iconst 0, 1) := dk_3 (dk_at dksX3_founded_0 11 rfl rfl)
theorem dX3_founded_12 : decode cX3_founded 12 = .ok (.putfield 70, 3) := dk_181 0 70 (dk_at dksX3_founded_0 12 rfl rfl)
theorem dX3_founded_15 : decode cX3_founded 15 = .ok (.aload_n 0, 1) := dk_42 (dk_at dksX3_founded_0 15 rfl rfl)
theorem dX3_founded_16 : decode cX3_founded 16 = .ok (.iconst 0, 1) := dk_3 (dk_at dksX3_founded_0 16 rfl rfl)
theorem dX3_founded_17 : decode cX3_founded 17 = .ok (.putfield 73, 3) := dk_181 0 73 (dk_at dksX3_founded_0 17 rfl rfl)
theorem dX3_founded_20 : decode cX3_founded 20 = .ok (.aload_n 0, 1) := dk_42 (dk_at dksX3_founded_0 20 rfl rfl)
theorem dX3_founded_21 : decode cX3_founded 21 = .ok (.iconst 0, 1) := dk_3 (dk_at dksX3_founded_0 21 rfl rfl)
theorem dX3_founded_22 : decode cX3_founded 22 = .ok (.putfield 58, 3) := dk_181 0 58 (dk_at dksX3_founded_1 0 rfl rfl)
theorem dX3_founded_25 : decode cX3_founded 25 = .ok (.aload_n 0, 1) := dk_42 (dk_at dksX3_founded_1 3 rfl rfl)
theorem dX3_founded_26 : decode cX3_founded 26 = .ok (.iconst 0, 1) := dk_3 (dk_at dksX3_founded_1 4 rfl rfl)
theorem dX3_founded_27 : decode cX3_founded 27 = .ok (.putfield 61, 3) := dk_181 0 61 (dk_at dksX3_founded_1 5 rfl rfl)
theorem dX3_founded_30 : decode cX3_founded 30 = .ok (.iconst 0, 1) := dk_3 (dk_at dksX3_founded_1 8 rfl rfl)
theorem dX3_founded_31 : decode cX3_founded 31 = .ok (.istore_n 2, 1) := dk_61 (dk_at dksX3_founded_1 9 rfl rfl)
theorem dX3_founded_32 : decode cX3_founded 32 = .ok (.iload_n 2, 1) := dk_28 (dk_at dksX3_founded_1 10 rfl rfl)
theorem dX3_founded_33 : decode cX3_founded 33 = .ok (.sipush 1000, 3) := dk_17 3 232 (dk_at dksX3_founded_1 11 rfl rfl)
theorem dX3_founded_36 : decode cX3_founded 36 = .ok (.if_icmp .ge 16, 3) := dk_162 0 16 (dk_at dksX3_founded_1 14 rfl rfl)
theorem dX3_founded_39 : decode cX3_founded 39 = .ok (.aload_n 0, 1) := dk_42 (dk_at dksX3_founded_1 17 rfl rfl)
theorem dX3_founded_40 : decode cX3_founded 40 = .ok (.getfield 36, 3) := dk_180 0 36 (dk_at dksX3_founded_1 18 rfl rfl)
theorem dX3_founded_43 : decode cX3_founded 43 = .ok (.iload_n 2, 1) := dk_28 (dk_at dksX3_founded_1 21 rfl rfl)
theorem dX3_founded_44 : decode cX3_founded 44 = .ok (.iconst (-1), 1) := dk_2 (dk_at dksX3_founded_1 22 rfl rfl)
theorem dX3_founded_45 : decode cX3_founded 45 = .ok (.iastore, 1) := dk_79 (dk_at dksX3_founded_1 23 rfl rfl)
theorem dX3_founded_46 : decode cX3_founded 46 = .ok (.iinc 2 1, 3) := dk_132 2 1 (dk_at dksX3_founded_2 0 rfl rfl)
theorem dX3_founded_49 : decode cX3_founded 49 = .ok (.goto (-17), 3) := dk_167 255 239 (dk_at dksX3_founded_2 3 rfl rfl)
theorem dX3_founded_52 : decode cX3_founded 52 = .ok (.iconst 0, 1) := dk_3 (dk_at dksX3_founded_2 6 rfl rfl)
theorem dX3_founded_53 : decode cX3_founded 53 = .ok (.istore_n 2, 1) := dk_61 (dk_at dksX3_founded_2 7 rfl rfl)
theorem dX3_founded_54 : decode cX3_founded 54 = .ok (.iload_n 2, 1) := dk_28 (dk_at dksX3_founded_2 8 rfl rfl)
theorem dX3_founded_55 : decode cX3_founded 55 = .ok (.bipush 7, 2) := dk_16 7 (dk_at dksX3_founded_2 9 rfl rfl)
theorem dX3_founded_57 : decode cX3_founded 57 = .ok (.if_icmp .ge 26, 3) := dk_162 0 26 (dk_at dksX3_founded_2 11 rfl rfl)
theorem dX3_founded_60 : decode cX3_founded 60 = .ok (.aload_n 0, 1) := dk_42 (dk_at dksX3_founded_2 14 rfl rfl)
theorem dX3_founded_61 : decode cX3_founded 61 = .ok (.getfield 32, 3) := dk_180 0 32 (dk_at dksX3_founded_2 15 rfl rfl)
theorem dX3_founded_64 : decode cX3_founded 64 = .ok (.iload_n 2, 1) := dk_28 (dk_at dksX3_founded_2 18 rfl rfl)
theorem dX3_founded_65 : decode cX3_founded 65 = .ok (.iconst 0, 1) := dk_3 (dk_at dksX3_founded_2 19 rfl rfl)
theorem dX3_founded_66 : decode cX3_founded 66 = .ok (.iastore, 1) := dk_79 (dk_at dksX3_founded_2 20 rfl rfl)
theorem dX3_founded_67 : decode cX3_founded 67 = .ok (.aload_n 0, 1) := dk_42 (dk_at dksX3_founded_2 21 rfl rfl)
theorem dX3_founded_68 : decode cX3_founded 68 = .ok (.getfield 17, 3) := dk_180 0 17 (dk_at dksX3_founded_3 0 rfl rfl)
theorem dX3_founded_71 : decode cX3_founded 71 = .ok (.iload_n 2, 1) := dk_28 (dk_at dksX3_founded_3 3 rfl rfl)
theorem dX3_founded_72 : decode cX3_founded 72 = .ok (.aaload, 1) := dk_50 (dk_at dksX3_founded_3 4 rfl rfl)
theorem dX3_founded_73 : decode cX3_founded 73 = .ok (.iload_n 1, 1) := dk_27 (dk_at dksX3_founded_3 5 rfl rfl)
theorem dX3_founded_74 : decode cX3_founded 74 = .ok (.invokevirtual 76, 3) := dk_182 0 76 (dk_at dksX3_founded_3 6 rfl rfl)
theorem dX3_founded_77 : decode cX3_founded 77 = .ok (.iinc 2 1, 3) := dk_132 2 1 (dk_at dksX3_founded_3 9 rfl rfl)
theorem dX3_founded_80 : decode cX3_founded 80 = .ok (.goto (-26), 3) := dk_167 255 230 (dk_at dksX3_founded_3 12 rfl rfl)
theorem dX3_founded_83 : decode cX3_founded 83 = .ok (.iconst 0, 1) := dk_3 (dk_at dksX3_founded_3 15 rfl rfl)
theorem dX3_founded_84 : decode cX3_founded 84 = .ok (.istore_n 2, 1) := dk_61 (dk_at dksX3_founded_3 16 rfl rfl)
theorem dX3_founded_85 : decode cX3_founded 85 = .ok (.iload_n 2, 1) := dk_28 (dk_at dksX3_founded_3 17 rfl rfl)
theorem dX3_founded_86 : decode cX3_founded 86 = .ok (.bipush 7, 2) := dk_16 7 (dk_at dksX3_founded_3 18 rfl rfl)
theorem dX3_founded_88 : decode cX3_founded 88 = .ok (.if_icmp .ge 14, 3) := dk_162 0 14 (dk_at dksX3_founded_3 20 rfl rfl)
theorem dX3_founded_91 : decode cX3_founded 91 = .ok (.aload_n 0, 1) := dk_42 (dk_at dksX3_founded_3 23 rfl rfl)
theorem dX3_founded_92 : decode cX3_founded 92 = .ok (.iload_n 2, 1) := dk_28 (dk_at dksX3_founded_4 0 rfl rfl)
theorem dX3_founded_93 : decode cX3_founded 93 = .ok (.invokevirtual 80, 3) := dk_182 0 80 (dk_at dksX3_founded_4 1 rfl rfl)
theorem dX3_founded_96 : decode cX3_founded 96 = .ok (.iinc 2 1, 3) := dk_132 2 1 (dk_at dksX3_founded_4 4 rfl rfl)
theorem dX3_founded_99 : decode cX3_founded 99 = .ok (.goto (-14), 3) := dk_167 255 242 (dk_at dksX3_founded_4 7 rfl rfl)
theorem dX3_founded_102 : decode cX3_founded 102 = .ok (.return_, 1) := dk_177 (dk_at dksX3_founded_4 10 rfl rfl)
abbrev cX3_setsTimer : ByteArray := prog_3_method_6_code
def yX3_setsTimer : MethodName := ⟨RX3, "setsTimer", "(I)V"⟩
def dkwX3_setsTimer_3 : List UInt8 := [184, 0, 121, 28, 96, 181, 0, 124, 177]
abbrev dktX3_setsTimer_3 : List UInt8 := dkwX3_setsTimer_3 ++ []
def dkwX3_setsTimer_2 : List UInt8 := [50, 7, 16, 40, 42, 180, 0, 3, 180, 0, 105, 16, 101, 16, 8, 45, 182, 0, 109, 184, 0, 115]
abbrev dktX3_setsTimer_2 : List UInt8 := dkwX3_setsTimer_2 ++ dktX3_setsTimer_3
def dkwX3_setsTimer_1 : List UInt8 := [180, 0, 92, 182, 0, 95, 42, 180, 0, 50, 42, 180, 0, 64, 28, 182, 0, 101, 78, 42, 180, 0, 17, 27]
abbrev dktX3_setsTimer_1 : List UInt8 := dkwX3_setsTimer_1 ++ dktX3_setsTimer_2
def dkwX3_setsTimer_0 : List UInt8 := [42, 182, 0, 84, 61, 42, 180, 0, 3, 180, 0, 88, 27, 27, 16, 6, 42, 180, 0, 17, 27, 50]
abbrev dktX3_setsTimer_0 : List UInt8 := dkwX3_setsTimer_0 ++ dktX3_setsTimer_1
theorem dksX3_setsTimer_0 : cX3_setsTimer.data.toList.drop 0 = dktX3_setsTimer_0 := by decide +kernel
theorem dksX3_setsTimer_1 : cX3_setsTimer.data.toList.drop 22 = dktX3_setsTimer_1 := dk_seg dksX3_setsTimer_0 22 rfl rfl
theorem dksX3_setsTimer_2 : cX3_setsTimer.data.toList.drop 46 = dktX3_setsTimer_2 := dk_seg dksX3_setsTimer_1 24 rfl rfl
theorem dksX3_setsTimer_3 : cX3_setsTimer.data.toList.drop 68 = dktX3_setsTimer_3 := dk_seg dksX3_setsTimer_2 22 rfl rfl
theorem dX3_setsTimer_0 : decode cX3_setsTimer 0 = .ok (.aload_n 0, 1) := dk_42 (dk_at dksX3_setsTimer_0 0 rfl rfl)
theorem dX3_setsTimer_1 : decode cX3_setsTimer 1 = .ok (.invokevirtual 84, 3) := dk_182 0 84 (dk_at dksX3_setsTimer_0 1 rfl rfl)
theorem dX3_setsTimer_4 : decode cX3_setsTimer 4 = .ok (.istore_n 2, 1) := dk_61 (dk_at dksX3_setsTimer_0 4 rfl rfl)
theorem dX3_setsTimer_5 : decode cX3_setsTimer 5 = .ok (.aload_n 0, 1) := dk_42 (dk_at dksX3_setsTimer_0 5 rfl rfl)
theorem dX3_setsTimer_6 : decode cX3_setsTimer 6 = .ok (.getfield 3, 3) := dk_180 0 3 (dk_at dksX3_setsTimer_0 6 rfl rfl)
theorem dX3_setsTimer_9 : decode cX3_setsTimer 9 = .ok (.getfield 88, 3) := dk_180 0 88 (dk_at dksX3_setsTimer_0 9 rfl rfl)
theorem dX3_setsTimer_12 : decode cX3_setsTimer 12 = .ok (.iload_n 1, 1) := dk_27 (dk_at dksX3_setsTimer_0 12 rfl rfl)
theorem dX3_setsTimer_13 : decode cX3_setsTimer 13 = .ok (.iload_n 1, 1) := dk_27 (dk_at dksX3_setsTimer_0 13 rfl rfl)
theorem dX3_setsTimer_14 : decode cX3_setsTimer 14 = .ok (.bipush 6, 2) := dk_16 6 (dk_at dksX3_setsTimer_0 14 rfl rfl)
theorem dX3_setsTimer_16 : decode cX3_setsTimer 16 = .ok (.aload_n 0, 1) := dk_42 (dk_at dksX3_setsTimer_0 16 rfl rfl)
theorem dX3_setsTimer_17 : decode cX3_setsTimer 17 = .ok (.getfield 17, 3) := dk_180 0 17 (dk_at dksX3_setsTimer_0 17 rfl rfl)
theorem dX3_setsTimer_20 : decode cX3_setsTimer 20 = .ok (.iload_n 1, 1) := dk_27 (dk_at dksX3_setsTimer_0 20 rfl rfl)
theorem dX3_setsTimer_21 : decode cX3_setsTimer 21 = .ok (.aaload, 1) := dk_50 (dk_at dksX3_setsTimer_0 21 rfl rfl)
theorem dX3_setsTimer_22 : decode cX3_setsTimer 22 = .ok (.getfield 92, 3) := dk_180 0 92 (dk_at dksX3_setsTimer_1 0 rfl rfl)
theorem dX3_setsTimer_25 : decode cX3_setsTimer 25 = .ok (.invokevirtual 95, 3) := dk_182 0 95 (dk_at dksX3_setsTimer_1 3 rfl rfl)
theorem dX3_setsTimer_28 : decode cX3_setsTimer 28 = .ok (.aload_n 0, 1) := dk_42 (dk_at dksX3_setsTimer_1 6 rfl rfl)
theorem dX3_setsTimer_29 : decode cX3_setsTimer 29 = .ok (.getfield 50, 3) := dk_180 0 50 (dk_at dksX3_setsTimer_1 7 rfl rfl)
theorem dX3_setsTimer_32 : decode cX3_setsTimer 32 = .ok (.aload_n 0, 1) := dk_42 (dk_at dksX3_setsTimer_1 10 rfl rfl)
theorem dX3_setsTimer_33 : decode cX3_setsTimer 33 = .ok (.getfield 64, 3) := dk_180 0 64 (dk_at dksX3_setsTimer_1 11 rfl rfl)
theorem dX3_setsTimer_36 : decode cX3_setsTimer 36 = .ok (.iload_n 2, 1) := dk_28 (dk_at dksX3_setsTimer_1 14 rfl rfl)
theorem dX3_setsTimer_37 : decode cX3_setsTimer 37 = .ok (.invokevirtual 101, 3) := dk_182 0 101 (dk_at dksX3_setsTimer_1 15 rfl rfl)
theorem dX3_setsTimer_40 : decode cX3_setsTimer 40 = .ok (.astore_n 3, 1) := dk_78 (dk_at dksX3_setsTimer_1 18 rfl rfl)
theorem dX3_setsTimer_41 : decode cX3_setsTimer 41 = .ok (.aload_n 0, 1) := dk_42 (dk_at dksX3_setsTimer_1 19 rfl rfl)
theorem dX3_setsTimer_42 : decode cX3_setsTimer 42 = .ok (.getfield 17, 3) := dk_180 0 17 (dk_at dksX3_setsTimer_1 20 rfl rfl)
theorem dX3_setsTimer_45 : decode cX3_setsTimer 45 = .ok (.iload_n 1, 1) := dk_27 (dk_at dksX3_setsTimer_1 23 rfl rfl)
theorem dX3_setsTimer_46 : decode cX3_setsTimer 46 = .ok (.aaload, 1) := dk_50 (dk_at dksX3_setsTimer_2 0 rfl rfl)
theorem dX3_setsTimer_47 : decode cX3_setsTimer 47 = .ok (.iconst 4, 1) := dk_7 (dk_at dksX3_setsTimer_2 1 rfl rfl)
theorem dX3_setsTimer_48 : decode cX3_setsTimer 48 = .ok (.bipush 40, 2) := dk_16 40 (dk_at dksX3_setsTimer_2 2 rfl rfl)
theorem dX3_setsTimer_50 : decode cX3_setsTimer 50 = .ok (.aload_n 0, 1) := dk_42 (dk_at dksX3_setsTimer_2 4 rfl rfl)
theorem dX3_setsTimer_51 : decode cX3_setsTimer 51 = .ok (.getfield 3, 3) := dk_180 0 3 (dk_at dksX3_setsTimer_2 5 rfl rfl)
theorem dX3_setsTimer_54 : decode cX3_setsTimer 54 = .ok (.getfield 105, 3) := dk_180 0 105 (dk_at dksX3_setsTimer_2 8 rfl rfl)
theorem dX3_setsTimer_57 : decode cX3_setsTimer 57 = .ok (.bipush 101, 2) := dk_16 101 (dk_at dksX3_setsTimer_2 11 rfl rfl)
theorem dX3_setsTimer_59 : decode cX3_setsTimer 59 = .ok (.bipush 8, 2) := dk_16 8 (dk_at dksX3_setsTimer_2 13 rfl rfl)
theorem dX3_setsTimer_61 : decode cX3_setsTimer 61 = .ok (.aload_n 3, 1) := dk_45 (dk_at dksX3_setsTimer_2 15 rfl rfl)
theorem dX3_setsTimer_62 : decode cX3_setsTimer 62 = .ok (.invokevirtual 109, 3) := dk_182 0 109 (dk_at dksX3_setsTimer_2 16 rfl rfl)
theorem dX3_setsTimer_65 : decode cX3_setsTimer 65 = .ok (.invokestatic 115, 3) := dk_184 0 115 (dk_at dksX3_setsTimer_2 19 rfl rfl)
theorem dX3_setsTimer_68 : decode cX3_setsTimer 68 = .ok (.invokestatic 121, 3) := dk_184 0 121 (dk_at dksX3_setsTimer_3 0 rfl rfl)
theorem dX3_setsTimer_71 : decode cX3_setsTimer 71 = .ok (.iload_n 2, 1) := dk_28 (dk_at dksX3_setsTimer_3 3 rfl rfl)
theorem dX3_setsTimer_72 : decode cX3_setsTimer 72 = .ok (.iadd, 1) := dk_96 (dk_at dksX3_setsTimer_3 4 rfl rfl)
theorem dX3_setsTimer_73 : decode cX3_setsTimer 73 = .ok (.putfield 124, 3) := dk_181 0 124 (dk_at dksX3_setsTimer_3 5 rfl rfl)
theorem dX3_setsTimer_76 : decode cX3_setsTimer 76 = .ok (.return_, 1) := dk_177 (dk_at dksX3_setsTimer_3 8 rfl rfl)
abbrev cX3_draw : ByteArray := prog_3_method_5_code
def yX3_draw : MethodName := ⟨RX3, "draw", "()I"⟩
def dkwX3_draw_1 : List UInt8 := [16, 10, 112, 172]
abbrev dktX3_draw_1 : List UInt8 := dkwX3_draw_1 ++ []
def dkwX3_draw_0 : List UInt8 := [42, 17, 98, 85, 42, 180, 0, 67, 104, 17, 54, 25, 96, 18, 83, 112, 181, 0, 67, 42, 180, 0, 67]
abbrev dktX3_draw_0 : List UInt8 := dkwX3_draw_0 ++ dktX3_draw_1
theorem dksX3_draw_0 : cX3_draw.data.toList.drop 0 = dktX3_draw_0 := by decide +kernel
theorem dksX3_draw_1 : cX3_draw.data.toList.drop 23 = dktX3_draw_1 := dk_seg dksX3_draw_0 23 rfl rfl
theorem dX3_draw_0 : decode cX3_draw 0 = .ok (.aload_n 0, 1) := dk_42 (dk_at dksX3_draw_0 0 rfl rfl)
theorem dX3_draw_1 : decode cX3_draw 1 = .ok (.sipush 25173, 3) := dk_17 98 85 (dk_at dksX3_draw_0 1 rfl rfl)
theorem dX3_draw_4 : decode cX3_draw 4 = .ok (.aload_n 0, 1) := dk_42 (dk_at dksX3_draw_0 4 rfl rfl)
theorem dX3_draw_5 : decode cX3_draw 5 = .ok (.getfield 67, 3) := dk_180 0 67 (dk_at dksX3_draw_0 5 rfl rfl)
theorem dX3_draw_8 : decode cX3_draw 8 = .ok (.imul, 1) := dk_104 (dk_at dksX3_draw_0 8 rfl rfl)
theorem dX3_draw_9 : decode cX3_draw 9 = .ok (.sipush 13849, 3) := dk_17 54 25 (dk_at dksX3_draw_0 9 rfl rfl)
theorem dX3_draw_12 : decode cX3_draw 12 = .ok (.iadd, 1) := dk_96 (dk_at dksX3_draw_0 12 rfl rfl)
theorem dX3_draw_13 : decode cX3_draw 13 = .ok (.ldc 83, 2) := dk_18 83 (dk_at dksX3_draw_0 13 rfl rfl)
theorem dX3_draw_15 : decode cX3_draw 15 = .ok (.irem, 1) := dk_112 (dk_at dksX3_draw_0 15 rfl rfl)
theorem dX3_draw_16 : decode cX3_draw 16 = .ok (.putfield 67, 3) := dk_181 0 67 (dk_at dksX3_draw_0 16 rfl rfl)
theorem dX3_draw_19 : decode cX3_draw 19 = .ok (.aload_n 0, 1) := dk_42 (dk_at dksX3_draw_0 19 rfl rfl)
theorem dX3_draw_20 : decode cX3_draw 20 = .ok (.getfield 67, 3) := dk_180 0 67 (dk_at dksX3_draw_0 20 rfl rfl)
theorem dX3_draw_23 : decode cX3_draw 23 = .ok (.bipush 10, 2) := dk_16 10 (dk_at dksX3_draw_1 0 rfl rfl)
theorem dX3_draw_25 : decode cX3_draw 25 = .ok (.irem, 1) := dk_112 (dk_at dksX3_draw_1 2 rfl rfl)
theorem dX3_draw_26 : decode cX3_draw 26 = .ok (.ireturn, 1) := dk_172 (dk_at dksX3_draw_1 3 rfl rfl)
abbrev cX3_losesReads : ByteArray := prog_3_method_14_code
def yX3_losesReads : MethodName := ⟨RX3, "losesReads", "(I)V"⟩
def dkwX3_losesReads_2 : List UInt8 := [167, 255, 213, 177]
abbrev dktX3_losesReads_2 : List UInt8 := dkwX3_losesReads_2 ++ []
def dkwX3_losesReads_1 : List UInt8 := [180, 0, 29, 28, 50, 7, 46, 154, 0, 12, 42, 180, 0, 29, 28, 50, 7, 5, 79, 132, 2, 1]
abbrev dktX3_losesReads_1 : List UInt8 := dkwX3_losesReads_1 ++ dktX3_losesReads_2
def dkwX3_losesReads_0 : List UInt8 := [3, 61, 28, 42, 180, 0, 61, 162, 0, 41, 42, 180, 0, 29, 28, 50, 3, 46, 27, 160, 0, 23, 42]
abbrev dktX3_losesReads_0 : List UInt8 := dkwX3_losesReads_0 ++ dktX3_losesReads_1
theorem dksX3_losesReads_0 : cX3_losesReads.data.toList.drop 0 = dktX3_losesReads_0 := by decide +kernel
theorem dksX3_losesReads_1 : cX3_losesReads.data.toList.drop 23 = dktX3_losesReads_1 := dk_seg dksX3_losesReads_0 23 rfl rfl
theorem dksX3_losesReads_2 : cX3_losesReads.data.toList.drop 45 = dktX3_losesReads_2 := dk_seg dksX3_losesReads_1 22 rfl rfl
theorem dX3_losesReads_0 : decode cX3_losesReads 0 = .ok (.iconst 0, 1) := dk_3 (dk_at dksX3_losesReads_0 0 rfl rfl)
theorem dX3_losesReads_1 : decode cX3_losesReads 1 = .ok (.istore_n 2, 1) := dk_61 (dk_at dksX3_losesReads_0 1 rfl rfl)
theorem dX3_losesReads_2 : decode cX3_losesReads 2 = .ok (.iload_n 2, 1) := dk_28 (dk_at dksX3_losesReads_0 2 rfl rfl)
theorem dX3_losesReads_3 : decode cX3_losesReads 3 = .ok (.aload_n 0, 1) := dk_42 (dk_at dksX3_losesReads_0 3 rfl rfl)
theorem dX3_losesReads_4 : decode cX3_losesReads 4 = .ok (.getfield 61, 3) := dk_180 0 61 (dk_at dksX3_losesReads_0 4 rfl rfl)
theorem dX3_losesReads_7 : decode cX3_losesReads 7 = .ok (.if_icmp .ge 41, 3) := dk_162 0 41 (dk_at dksX3_losesReads_0 7 rfl rfl)
theorem dX3_losesReads_10 : decode cX3_losesReads 10 = .ok (.aload_n 0, 1) := dk_42 (dk_at dksX3_losesReads_0 10 rfl rfl)
theorem dX3_losesReads_11 : decode cX3_losesReads 11 = .ok (.getfield 29, 3) := dk_180 0 29 (dk_at dksX3_losesReads_0 11 rfl rfl)
theorem dX3_losesReads_14 : decode cX3_losesReads 14 = .ok (.iload_n 2, 1) := dk_28 (dk_at dksX3_losesReads_0 14 rfl rfl)
theorem dX3_losesReads_15 : decode cX3_losesReads 15 = .ok (.aaload, 1) := dk_50 (dk_at dksX3_losesReads_0 15 rfl rfl)
theorem dX3_losesReads_16 : decode cX3_losesReads 16 = .ok (.iconst 0, 1) := dk_3 (dk_at dksX3_losesReads_0 16 rfl rfl)
theorem dX3_losesReads_17 : decode cX3_losesReads 17 = .ok (.iaload, 1) := dk_46 (dk_at dksX3_losesReads_0 17 rfl rfl)
theorem dX3_losesReads_18 : decode cX3_losesReads 18 = .ok (.iload_n 1, 1) := dk_27 (dk_at dksX3_losesReads_0 18 rfl rfl)
theorem dX3_losesReads_19 : decode cX3_losesReads 19 = .ok (.if_icmp .ne 23, 3) := dk_160 0 23 (dk_at dksX3_losesReads_0 19 rfl rfl)
theorem dX3_losesReads_22 : decode cX3_losesReads 22 = .ok (.aload_n 0, 1) := dk_42 (dk_at dksX3_losesReads_0 22 rfl rfl)
theorem dX3_losesReads_23 : decode cX3_losesReads 23 = .ok (.getfield 29, 3) := dk_180 0 29 (dk_at dksX3_losesReads_1 0 rfl rfl)
theorem dX3_losesReads_26 : decode cX3_losesReads 26 = .ok (.iload_n 2, 1) := dk_28 (dk_at dksX3_losesReads_1 3 rfl rfl)
theorem dX3_losesReads_27 : decode cX3_losesReads 27 = .ok (.aaload, 1) := dk_50 (dk_at dksX3_losesReads_1 4 rfl rfl)
theorem dX3_losesReads_28 : decode cX3_losesReads 28 = .ok (.iconst 4, 1) := dk_7 (dk_at dksX3_losesReads_1 5 rfl rfl)
theorem dX3_losesReads_29 : decode cX3_losesReads 29 = .ok (.iaload, 1) := dk_46 (dk_at dksX3_losesReads_1 6 rfl rfl)
theorem dX3_losesReads_30 : decode cX3_losesReads 30 = .ok (.ifCond .ne 12, 3) := dk_154 0 12 (dk_at dksX3_losesReads_1 7 rfl rfl)
theorem dX3_losesReads_33 : decode cX3_losesReads 33 = .ok (.aload_n 0, 1) := dk_42 (dk_at dksX3_losesReads_1 10 rfl rfl)
theorem dX3_losesReads_34 : decode cX3_losesReads 34 = .ok (.getfield 29, 3) := dk_180 0 29 (dk_at dksX3_losesReads_1 11 rfl rfl)
theorem dX3_losesReads_37 : decode cX3_losesReads 37 = .ok (.iload_n 2, 1) := dk_28 (dk_at dksX3_losesReads_1 14 rfl rfl)
theorem dX3_losesReads_38 : decode cX3_losesReads 38 = .ok (.aaload, 1) := dk_50 (dk_at dksX3_losesReads_1 15 rfl rfl)
theorem dX3_losesReads_39 : decode cX3_losesReads 39 = .ok (.iconst 4, 1) := dk_7 (dk_at dksX3_losesReads_1 16 rfl rfl)
theorem dX3_losesReads_40 : decode cX3_losesReads 40 = .ok (.iconst 2, 1) := dk_5 (dk_at dksX3_losesReads_1 17 rfl rfl)
theorem dX3_losesReads_41 : decode cX3_losesReads 41 = .ok (.iastore, 1) := dk_79 (dk_at dksX3_losesReads_1 18 rfl rfl)
theorem dX3_losesReads_42 : decode cX3_losesReads 42 = .ok (.iinc 2 1, 3) := dk_132 2 1 (dk_at dksX3_losesReads_1 19 rfl rfl)
theorem dX3_losesReads_45 : decode cX3_losesReads 45 = .ok (.goto (-43), 3) := dk_167 255 213 (dk_at dksX3_losesReads_2 0 rfl rfl)
theorem dX3_losesReads_48 : decode cX3_losesReads 48 = .ok (.return_, 1) := dk_177 (dk_at dksX3_losesReads_2 3 rfl rfl)
abbrev cX3_isLeader : ByteArray := prog_3_method_38_code
def yX3_isLeader : MethodName := ⟨RX3, "isLeader", "(I)Z"⟩
def dkwX3_isLeader_1 : List UInt8 := [160, 0, 7, 4, 167, 0, 4, 3, 172]
abbrev dktX3_isLeader_1 : List UInt8 := dkwX3_isLeader_1 ++ []
def dkwX3_isLeader_0 : List UInt8 := [42, 180, 0, 17, 27, 50, 180, 1, 44, 153, 0, 20, 42, 180, 0, 17, 27, 50, 180, 0, 199, 5]
abbrev dktX3_isLeader_0 : List UInt8 := dkwX3_isLeader_0 ++ dktX3_isLeader_1
theorem dksX3_isLeader_0 : cX3_isLeader.data.toList.drop 0 = dktX3_isLeader_0 := by decide +kernel
theorem dksX3_isLeader_1 : cX3_isLeader.data.toList.drop 22 = dktX3_isLeader_1 := dk_seg dksX3_isLeader_0 22 rfl rfl
theorem dX3_isLeader_0 : decode cX3_isLeader 0 = .ok (.aload_n 0, 1) := dk_42 (dk_at dksX3_isLeader_0 0 rfl rfl)
theorem dX3_isLeader_1 : decode cX3_isLeader 1 = .ok (.getfield 17, 3) := dk_180 0 17 (dk_at dksX3_isLeader_0 1 rfl rfl)
theorem dX3_isLeader_4 : decode cX3_isLeader 4 = .ok (.iload_n 1, 1) := dk_27 (dk_at dksX3_isLeader_0 4 rfl rfl)
theorem dX3_isLeader_5 : decode cX3_isLeader 5 = .ok (.aaload, 1) := dk_50 (dk_at dksX3_isLeader_0 5 rfl rfl)
theorem dX3_isLeader_6 : decode cX3_isLeader 6 = .ok (.getfield 300, 3) := dk_180 1 44 (dk_at dksX3_isLeader_0 6 rfl rfl)
theorem dX3_isLeader_9 : decode cX3_isLeader 9 = .ok (.ifCond .eq 20, 3) := dk_153 0 20 (dk_at dksX3_isLeader_0 9 rfl rfl)
theorem dX3_isLeader_12 : decode cX3_isLeader 12 = .ok (.aload_n 0, 1) := dk_42 (dk_at dksX3_isLeader_0 12 rfl rfl)
theorem dX3_isLeader_13 : decode cX3_isLeader 13 = .ok (.getfield 17, 3) := dk_180 0 17 (dk_at dksX3_isLeader_0 13 rfl rfl)
theorem dX3_isLeader_16 : decode cX3_isLeader 16 = .ok (.iload_n 1, 1) := dk_27 (dk_at dksX3_isLeader_0 16 rfl rfl)
theorem dX3_isLeader_17 : decode cX3_isLeader 17 = .ok (.aaload, 1) := dk_50 (dk_at dksX3_isLeader_0 17 rfl rfl)
theorem dX3_isLeader_18 : decode cX3_isLeader 18 = .ok (.getfield 199, 3) := dk_180 0 199 (dk_at dksX3_isLeader_0 18 rfl rfl)
theorem dX3_isLeader_21 : decode cX3_isLeader 21 = .ok (.iconst 2, 1) := dk_5 (dk_at dksX3_isLeader_0 21 rfl rfl)
theorem dX3_isLeader_22 : decode cX3_isLeader 22 = .ok (.if_icmp .ne 7, 3) := dk_160 0 7 (dk_at dksX3_isLeader_1 0 rfl rfl)
theorem dX3_isLeader_25 : decode cX3_isLeader 25 = .ok (.iconst 1, 1) := dk_4 (dk_at dksX3_isLeader_1 3 rfl rfl)
theorem dX3_isLeader_26 : decode cX3_isLeader 26 = .ok (.goto 4, 3) := dk_167 0 4 (dk_at dksX3_isLeader_1 4 rfl rfl)
theorem dX3_isLeader_29 : decode cX3_isLeader 29 = .ok (.iconst 0, 1) := dk_3 (dk_at dksX3_isLeader_1 7 rfl rfl)
theorem dX3_isLeader_30 : decode cX3_isLeader 30 = .ok (.ireturn, 1) := dk_172 (dk_at dksX3_isLeader_1 8 rfl rfl)
abbrev cX3_isFull : ByteArray := prog_3_method_40_code
def yX3_isFull : MethodName := ⟨RX3, "isFull", "(I)Z"⟩
def dkwX3_isFull_1 : List UInt8 := [17, 3, 231, 160, 0, 7, 4, 167, 0, 4, 3, 172]
abbrev dktX3_isFull_1 : List UInt8 := dkwX3_isFull_1 ++ []
def dkwX3_isFull_0 : List UInt8 := [42, 180, 0, 17, 27, 50, 180, 1, 4, 16, 40, 162, 0, 18, 42, 180, 0, 17, 27, 50, 182, 0, 173]
abbrev dktX3_isFull_0 : List UInt8 := dkwX3_isFull_0 ++ dktX3_isFull_1
theorem dksX3_isFull_0 : cX3_isFull.data.toList.drop 0 = dktX3_isFull_0 := by decide +kernel
theorem dksX3_isFull_1 : cX3_isFull.data.toList.drop 23 = dktX3_isFull_1 := dk_seg dksX3_isFull_0 23 rfl rfl
theorem dX3_isFull_0 : decode cX3_isFull 0 = .ok (.aload_n 0, 1) := dk_42 (dk_at dksX3_isFull_0 0 rfl rfl)
theorem dX3_isFull_1 : decode cX3_isFull 1 = .ok (.getfield 17, 3) := dk_180 0 17 (dk_at dksX3_isFull_0 1 rfl rfl)
theorem dX3_isFull_4 : decode cX3_isFull 4 = .ok (.iload_n 1, 1) := dk_27 (dk_at dksX3_isFull_0 4 rfl rfl)
theorem dX3_isFull_5 : decode cX3_isFull 5 = .ok (.aaload, 1) := dk_50 (dk_at dksX3_isFull_0 5 rfl rfl)
theorem dX3_isFull_6 : decode cX3_isFull 6 = .ok (.getfield 260, 3) := dk_180 1 4 (dk_at dksX3_isFull_0 6 rfl rfl)
theorem dX3_isFull_9 : decode cX3_isFull 9 = .ok (.bipush 40, 2) := dk_16 40 (dk_at dksX3_isFull_0 9 rfl rfl)
theorem dX3_isFull_11 : decode cX3_isFull 11 = .ok (.if_icmp .ge 18, 3) := dk_162 0 18 (dk_at dksX3_isFull_0 11 rfl rfl)
theorem dX3_isFull_14 : decode cX3_isFull 14 = .ok (.aload_n 0, 1) := dk_42 (dk_at dksX3_isFull_0 14 rfl rfl)
theorem dX3_isFull_15 : decode cX3_isFull 15 = .ok (.getfield 17, 3) := dk_180 0 17 (dk_at dksX3_isFull_0 15 rfl rfl)
theorem dX3_isFull_18 : decode cX3_isFull 18 = .ok (.iload_n 1, 1) := dk_27 (dk_at dksX3_isFull_0 18 rfl rfl)
theorem dX3_isFull_19 : decode cX3_isFull 19 = .ok (.aaload, 1) := dk_50 (dk_at dksX3_isFull_0 19 rfl rfl)
theorem dX3_isFull_20 : decode cX3_isFull 20 = .ok (.invokevirtual 173, 3) := dk_182 0 173 (dk_at dksX3_isFull_0 20 rfl rfl)
theorem dX3_isFull_23 : decode cX3_isFull 23 = .ok (.sipush 999, 3) := dk_17 3 231 (dk_at dksX3_isFull_1 0 rfl rfl)
theorem dX3_isFull_26 : decode cX3_isFull 26 = .ok (.if_icmp .ne 7, 3) := dk_160 0 7 (dk_at dksX3_isFull_1 3 rfl rfl)
theorem dX3_isFull_29 : decode cX3_isFull 29 = .ok (.iconst 1, 1) := dk_4 (dk_at dksX3_isFull_1 6 rfl rfl)
theorem dX3_isFull_30 : decode cX3_isFull 30 = .ok (.goto 4, 3) := dk_167 0 4 (dk_at dksX3_isFull_1 7 rfl rfl)
theorem dX3_isFull_33 : decode cX3_isFull 33 = .ok (.iconst 0, 1) := dk_3 (dk_at dksX3_isFull_1 10 rfl rfl)
theorem dX3_isFull_34 : decode cX3_isFull 34 = .ok (.ireturn, 1) := dk_172 (dk_at dksX3_isFull_1 11 rfl rfl)
abbrev cX3_laysFor : ByteArray := prog_3_method_39_code
def yX3_laysFor : MethodName := ⟨RX3, "laysFor", "(IIII)I"⟩
def dkwX3_laysFor_2 : List UInt8 := [182, 0, 237, 21, 6, 172]
abbrev dktX3_laysFor_2 : List UInt8 := dkwX3_laysFor_2 ++ []
def dkwX3_laysFor_1 : List UInt8 := [25, 5, 182, 0, 173, 54, 6, 25, 5, 180, 0, 221, 27, 21, 6, 79, 42, 27, 182, 0, 234, 42, 27]
abbrev dktX3_laysFor_1 : List UInt8 := dkwX3_laysFor_1 ++ dktX3_laysFor_2
def dkwX3_laysFor_0 : List UInt8 := [42, 180, 0, 17, 27, 50, 58, 5, 25, 5, 25, 5, 180, 0, 92, 28, 29, 21, 4, 182, 0, 230, 87]
abbrev dktX3_laysFor_0 : List UInt8 := dkwX3_laysFor_0 ++ dktX3_laysFor_1
theorem dksX3_laysFor_0 : cX3_laysFor.data.toList.drop 0 = dktX3_laysFor_0 := by decide +kernel
theorem dksX3_laysFor_1 : cX3_laysFor.data.toList.drop 23 = dktX3_laysFor_1 := dk_seg dksX3_laysFor_0 23 rfl rfl
theorem dksX3_laysFor_2 : cX3_laysFor.data.toList.drop 46 = dktX3_laysFor_2 := dk_seg dksX3_laysFor_1 23 rfl rfl
theorem dX3_laysFor_0 : decode cX3_laysFor 0 = .ok (.aload_n 0, 1) := dk_42 (dk_at dksX3_laysFor_0 0 rfl rfl)
theorem dX3_laysFor_1 : decode cX3_laysFor 1 = .ok (.getfield 17, 3) := dk_180 0 17 (dk_at dksX3_laysFor_0 1 rfl rfl)
theorem dX3_laysFor_4 : decode cX3_laysFor 4 = .ok (.iload_n 1, 1) := dk_27 (dk_at dksX3_laysFor_0 4 rfl rfl)
theorem dX3_laysFor_5 : decode cX3_laysFor 5 = .ok (.aaload, 1) := dk_50 (dk_at dksX3_laysFor_0 5 rfl rfl)
theorem dX3_laysFor_6 : decode cX3_laysFor 6 = .ok (.astore 5, 2) := dk_58 5 (dk_at dksX3_laysFor_0 6 rfl rfl)
theorem dX3_laysFor_8 : decode cX3_laysFor 8 = .ok (.aload 5, 2) := dk_25 5 (dk_at dksX3_laysFor_0 8 rfl rfl)
theorem dX3_laysFor_10 : decode cX3_laysFor 10 = .ok (.aload 5, 2) := dk_25 5 (dk_at dksX3_laysFor_0 10 rfl rfl)
theorem dX3_laysFor_12 : decode cX3_laysFor 12 = .ok (.getfield 92, 3) := dk_180 0 92 (dk_at dksX3_laysFor_0 12 rfl rfl)
theorem dX3_laysFor_15 : decode cX3_laysFor 15 = .ok (.iload_n 2, 1) := dk_28 (dk_at dksX3_laysFor_0 15 rfl rfl)
theorem dX3_laysFor_16 : decode cX3_laysFor 16 = .ok (.iload_n 3, 1) := dk_29 (dk_at dksX3_laysFor_0 16 rfl rfl)
theorem dX3_laysFor_17 : decode cX3_laysFor 17 = .ok (.iload 4, 2) := dk_21 4 (dk_at dksX3_laysFor_0 17 rfl rfl)
theorem dX3_laysFor_19 : decode cX3_laysFor 19 = .ok (.invokevirtual 230, 3) := dk_182 0 230 (dk_at dksX3_laysFor_0 19 rfl rfl)
theorem dX3_laysFor_22 : decode cX3_laysFor 22 = .ok (.pop, 1) := dk_87 (dk_at dksX3_laysFor_0 22 rfl rfl)
theorem dX3_laysFor_23 : decode cX3_laysFor 23 = .ok (.aload 5, 2) := dk_25 5 (dk_at dksX3_laysFor_1 0 rfl rfl)
theorem dX3_laysFor_25 : decode cX3_laysFor 25 = .ok (.invokevirtual 173, 3) := dk_182 0 173 (dk_at dksX3_laysFor_1 2 rfl rfl)
theorem dX3_laysFor_28 : decode cX3_laysFor 28 = .ok (.istore 6, 2) := dk_54 6 (dk_at dksX3_laysFor_1 5 rfl rfl)
theorem dX3_laysFor_30 : decode cX3_laysFor 30 = .ok (.aload 5, 2) := dk_25 5 (dk_at dksX3_laysFor_1 7 rfl rfl)
theorem dX3_laysFor_32 : decode cX3_laysFor 32 = .ok (.getfield 221, 3) := dk_180 0 221 (dk_at dksX3_laysFor_1 9 rfl rfl)
theorem dX3_laysFor_35 : decode cX3_laysFor 35 = .ok (.iload_n 1, 1) := dk_27 (dk_at dksX3_laysFor_1 12 rfl rfl)
theorem dX3_laysFor_36 : decode cX3_laysFor 36 = .ok (.iload 6, 2) := dk_21 6 (dk_at dksX3_laysFor_1 13 rfl rfl)
theorem dX3_laysFor_38 : decode cX3_laysFor 38 = .ok (.iastore, 1) := dk_79 (dk_at dksX3_laysFor_1 15 rfl rfl)
theorem dX3_laysFor_39 : decode cX3_laysFor 39 = .ok (.aload_n 0, 1) := dk_42 (dk_at dksX3_laysFor_1 16 rfl rfl)
theorem dX3_laysFor_40 : decode cX3_laysFor 40 = .ok (.iload_n 1, 1) := dk_27 (dk_at dksX3_laysFor_1 17 rfl rfl)
theorem dX3_laysFor_41 : decode cX3_laysFor 41 = .ok (.invokevirtual 234, 3) := dk_182 0 234 (dk_at dksX3_laysFor_1 18 rfl rfl)
theorem dX3_laysFor_44 : decode cX3_laysFor 44 = .ok (.aload_n 0, 1) := dk_42 (dk_at dksX3_laysFor_1 21 rfl rfl)
theorem dX3_laysFor_45 : decode cX3_laysFor 45 = .ok (.iload_n 1, 1) := dk_27 (dk_at dksX3_laysFor_1 22 rfl rfl)
theorem dX3_laysFor_46 : decode cX3_laysFor 46 = .ok (.invokevirtual 237, 3) := dk_182 0 237 (dk_at dksX3_laysFor_2 0 rfl rfl)
theorem dX3_laysFor_49 : decode cX3_laysFor 49 = .ok (.iload 6, 2) := dk_21 6 (dk_at dksX3_laysFor_2 3 rfl rfl)
theorem dX3_laysFor_51 : decode cX3_laysFor 51 = .ok (.ireturn, 1) := dk_172 (dk_at dksX3_laysFor_2 5 rfl rfl)
abbrev cX3_sendsToAll : ByteArray := prog_3_method_12_code
def yX3_sendsToAll : MethodName := ⟨RX3, "sendsToAll", "(I)V"⟩
def dkwX3_sendsToAll_1 : List UInt8 := [29, 184, 0, 191, 153, 0, 9, 42, 27, 29, 182, 0, 195, 132, 3, 1, 167, 255, 228, 177]
abbrev dktX3_sendsToAll_1 : List UInt8 := dkwX3_sendsToAll_1 ++ []
def dkwX3_sendsToAll_0 : List UInt8 := [42, 180, 0, 17, 27, 50, 182, 0, 188, 61, 3, 62, 29, 16, 7, 162, 0, 28, 29, 27, 159, 0, 17, 28]
abbrev dktX3_sendsToAll_0 : List UInt8 := dkwX3_sendsToAll_0 ++ dktX3_sendsToAll_1
theorem dksX3_sendsToAll_0 : cX3_sendsToAll.data.toList.drop 0 = dktX3_sendsToAll_0 := by decide +kernel
theorem dksX3_sendsToAll_1 : cX3_sendsToAll.data.toList.drop 24 = dktX3_sendsToAll_1 := dk_seg dksX3_sendsToAll_0 24 rfl rfl
theorem dX3_sendsToAll_0 : decode cX3_sendsToAll 0 = .ok (.aload_n 0, 1) := dk_42 (dk_at dksX3_sendsToAll_0 0 rfl rfl)
theorem dX3_sendsToAll_1 : decode cX3_sendsToAll 1 = .ok (.getfield 17, 3) := dk_180 0 17 (dk_at dksX3_sendsToAll_0 1 rfl rfl)
theorem dX3_sendsToAll_4 : decode cX3_sendsToAll 4 = .ok (.iload_n 1, 1) := dk_27 (dk_at dksX3_sendsToAll_0 4 rfl rfl)
theorem dX3_sendsToAll_5 : decode cX3_sendsToAll 5 = .ok (.aaload, 1) := dk_50 (dk_at dksX3_sendsToAll_0 5 rfl rfl)
theorem dX3_sendsToAll_6 : decode cX3_sendsToAll 6 = .ok (.invokevirtual 188, 3) := dk_182 0 188 (dk_at dksX3_sendsToAll_0 6 rfl rfl)
theorem dX3_sendsToAll_9 : decode cX3_sendsToAll 9 = .ok (.istore_n 2, 1) := dk_61 (dk_at dksX3_sendsToAll_0 9 rfl rfl)
theorem dX3_sendsToAll_10 : decode cX3_sendsToAll 10 = .ok (.iconst 0, 1) := dk_3 (dk_at dksX3_sendsToAll_0 10 rfl rfl)
theorem dX3_sendsToAll_11 : decode cX3_sendsToAll 11 = .ok (.istore_n 3, 1) := dk_62 (dk_at dksX3_sendsToAll_0 11 rfl rfl)
theorem dX3_sendsToAll_12 : decode cX3_sendsToAll 12 = .ok (.iload_n 3, 1) := dk_29 (dk_at dksX3_sendsToAll_0 12 rfl rfl)
theorem dX3_sendsToAll_13 : decode cX3_sendsToAll 13 = .ok (.bipush 7, 2) := dk_16 7 (dk_at dksX3_sendsToAll_0 13 rfl rfl)
theorem dX3_sendsToAll_15 : decode cX3_sendsToAll 15 = .ok (.if_icmp .ge 28, 3) := dk_162 0 28 (dk_at dksX3_sendsToAll_0 15 rfl rfl)
theorem dX3_sendsToAll_18 : decode cX3_sendsToAll 18 = .ok (.iload_n 3, 1) := dk_29 (dk_at dksX3_sendsToAll_0 18 rfl rfl)
theorem dX3_sendsToAll_19 : decode cX3_sendsToAll 19 = .ok (.iload_n 1, 1) := dk_27 (dk_at dksX3_sendsToAll_0 19 rfl rfl)
theorem dX3_sendsToAll_20 : decode cX3_sendsToAll 20 = .ok (.if_icmp .eq 17, 3) := dk_159 0 17 (dk_at dksX3_sendsToAll_0 20 rfl rfl)
theorem dX3_sendsToAll_23 : decode cX3_sendsToAll 23 = .ok (.iload_n 2, 1) := dk_28 (dk_at dksX3_sendsToAll_0 23 rfl rfl)
theorem dX3_sendsToAll_24 : decode cX3_sendsToAll 24 = .ok (.iload_n 3, 1) := dk_29 (dk_at dksX3_sendsToAll_1 0 rfl rfl)
theorem dX3_sendsToAll_25 : decode cX3_sendsToAll 25 = .ok (.invokestatic 191, 3) := dk_184 0 191 (dk_at dksX3_sendsToAll_1 1 rfl rfl)
theorem dX3_sendsToAll_28 : decode cX3_sendsToAll 28 = .ok (.ifCond .eq 9, 3) := dk_153 0 9 (dk_at dksX3_sendsToAll_1 4 rfl rfl)
theorem dX3_sendsToAll_31 : decode cX3_sendsToAll 31 = .ok (.aload_n 0, 1) := dk_42 (dk_at dksX3_sendsToAll_1 7 rfl rfl)
theorem dX3_sendsToAll_32 : decode cX3_sendsToAll 32 = .ok (.iload_n 1, 1) := dk_27 (dk_at dksX3_sendsToAll_1 8 rfl rfl)
theorem dX3_sendsToAll_33 : decode cX3_sendsToAll 33 = .ok (.iload_n 3, 1) := dk_29 (dk_at dksX3_sendsToAll_1 9 rfl rfl)
theorem dX3_sendsToAll_34 : decode cX3_sendsToAll 34 = .ok (.invokevirtual 195, 3) := dk_182 0 195 (dk_at dksX3_sendsToAll_1 10 rfl rfl)
theorem dX3_sendsToAll_37 : decode cX3_sendsToAll 37 = .ok (.iinc 3 1, 3) := dk_132 3 1 (dk_at dksX3_sendsToAll_1 13 rfl rfl)
theorem dX3_sendsToAll_40 : decode cX3_sendsToAll 40 = .ok (.goto (-28), 3) := dk_167 255 228 (dk_at dksX3_sendsToAll_1 16 rfl rfl)
theorem dX3_sendsToAll_43 : decode cX3_sendsToAll 43 = .ok (.return_, 1) := dk_177 (dk_at dksX3_sendsToAll_1 19 rfl rfl)
abbrev cX3_sendsOn : ByteArray := prog_3_method_11_code
def yX3_sendsOn : MethodName := ⟨RX3, "sendsOn", "(II)V"⟩
def dkwX3_sendsOn_11 : List UInt8 := [79, 132, 5, 1, 167, 255, 147, 42, 182, 0, 142, 177]
abbrev dktX3_sendsOn_11 : List UInt8 := dkwX3_sendsOn_11 ++ []
def dkwX3_sendsOn_10 : List UInt8 := [21, 6, 46, 79, 42, 180, 0, 39, 16, 10, 7, 21, 5, 104, 96, 6, 96, 45, 180, 0, 185, 21, 6, 46]
abbrev dktX3_sendsOn_10 : List UInt8 := dkwX3_sendsOn_10 ++ dktX3_sendsOn_11
def dkwX3_sendsOn_9 : List UInt8 := [180, 0, 179, 21, 6, 46, 79, 42, 180, 0, 39, 16, 10, 7, 21, 5, 104, 96, 5, 96, 45, 180, 0, 182]
abbrev dktX3_sendsOn_9 : List UInt8 := dkwX3_sendsOn_9 ++ dktX3_sendsOn_10
def dkwX3_sendsOn_8 : List UInt8 := [104, 96, 45, 180, 0, 176, 21, 6, 46, 79, 42, 180, 0, 39, 16, 10, 7, 21, 5, 104, 96, 4, 96, 45]
abbrev dktX3_sendsOn_8 : List UInt8 := dkwX3_sendsOn_8 ++ dktX3_sendsOn_9
def dkwX3_sendsOn_7 : List UInt8 := [162, 0, 103, 21, 4, 45, 180, 0, 148, 100, 21, 5, 96, 54, 6, 42, 180, 0, 39, 16, 10, 7, 21, 5]
abbrev dktX3_sendsOn_7 : List UInt8 := dkwX3_sendsOn_7 ++ dktX3_sendsOn_8
def dkwX3_sendsOn_6 : List UInt8 := [45, 182, 0, 173, 21, 4, 100, 184, 0, 115, 79, 3, 54, 5, 21, 5, 42, 180, 0, 39, 16, 9, 46]
abbrev dktX3_sendsOn_6 : List UInt8 := dkwX3_sendsOn_6 ++ dktX3_sendsOn_7
def dkwX3_sendsOn_5 : List UInt8 := [21, 4, 182, 0, 166, 45, 180, 0, 170, 45, 180, 0, 154, 182, 0, 138, 87, 42, 180, 0, 39, 16, 9, 7]
abbrev dktX3_sendsOn_5 : List UInt8 := dkwX3_sendsOn_5 ++ dktX3_sendsOn_6
def dkwX3_sendsOn_4 : List UInt8 := [167, 255, 229, 167, 0, 170, 45, 180, 0, 145, 28, 46, 4, 100, 54, 4, 42, 27, 28, 5, 21, 4, 45]
abbrev dktX3_sendsOn_4 : List UInt8 := dkwX3_sendsOn_4 ++ dktX3_sendsOn_5
def dkwX3_sendsOn_3 : List UInt8 := [162, 0, 26, 42, 180, 0, 39, 16, 12, 21, 4, 96, 45, 180, 0, 163, 21, 4, 46, 79, 132, 4, 1]
abbrev dktX3_sendsOn_3 : List UInt8 := dkwX3_sendsOn_3 ++ dktX3_sendsOn_4
def dkwX3_sendsOn_2 : List UInt8 := [180, 0, 157, 79, 42, 180, 0, 39, 16, 11, 45, 180, 0, 160, 79, 3, 54, 4, 21, 4, 16, 8]
abbrev dktX3_sendsOn_2 : List UInt8 := dkwX3_sendsOn_2 ++ dktX3_sendsOn_3
def dkwX3_sendsOn_1 : List UInt8 := [45, 180, 0, 148, 45, 180, 0, 151, 45, 180, 0, 154, 3, 182, 0, 138, 87, 42, 180, 0, 39, 16, 10, 45]
abbrev dktX3_sendsOn_1 : List UInt8 := dkwX3_sendsOn_1 ++ dktX3_sendsOn_2
def dkwX3_sendsOn_0 : List UInt8 := [42, 180, 0, 17, 27, 50, 78, 45, 180, 0, 145, 28, 46, 45, 180, 0, 148, 163, 0, 82, 42, 27, 28, 7]
abbrev dktX3_sendsOn_0 : List UInt8 := dkwX3_sendsOn_0 ++ dktX3_sendsOn_1
theorem dksX3_sendsOn_0 : cX3_sendsOn.data.toList.drop 0 = dktX3_sendsOn_0 := by decide +kernel
theorem dksX3_sendsOn_1 : cX3_sendsOn.data.toList.drop 24 = dktX3_sendsOn_1 := dk_seg dksX3_sendsOn_0 24 rfl rfl
theorem dksX3_sendsOn_2 : cX3_sendsOn.data.toList.drop 48 = dktX3_sendsOn_2 := dk_seg dksX3_sendsOn_1 24 rfl rfl
theorem dksX3_sendsOn_3 : cX3_sendsOn.data.toList.drop 70 = dktX3_sendsOn_3 := dk_seg dksX3_sendsOn_2 22 rfl rfl
theorem dksX3_sendsOn_4 : cX3_sendsOn.data.toList.drop 93 = dktX3_sendsOn_4 := dk_seg dksX3_sendsOn_3 23 rfl rfl
theorem dksX3_sendsOn_5 : cX3_sendsOn.data.toList.drop 116 = dktX3_sendsOn_5 := dk_seg dksX3_sendsOn_4 23 rfl rfl
theorem dksX3_sendsOn_6 : cX3_sendsOn.data.toList.drop 140 = dktX3_sendsOn_6 := dk_seg dksX3_sendsOn_5 24 rfl rfl
theorem dksX3_sendsOn_7 : cX3_sendsOn.data.toList.drop 163 = dktX3_sendsOn_7 := dk_seg dksX3_sendsOn_6 23 rfl rfl
theorem dksX3_sendsOn_8 : cX3_sendsOn.data.toList.drop 187 = dktX3_sendsOn_8 := dk_seg dksX3_sendsOn_7 24 rfl rfl
theorem dksX3_sendsOn_9 : cX3_sendsOn.data.toList.drop 211 = dktX3_sendsOn_9 := dk_seg dksX3_sendsOn_8 24 rfl rfl
theorem dksX3_sendsOn_10 : cX3_sendsOn.data.toList.drop 235 = dktX3_sendsOn_10 := dk_seg dksX3_sendsOn_9 24 rfl rfl
theorem dksX3_sendsOn_11 : cX3_sendsOn.data.toList.drop 259 = dktX3_sendsOn_11 := dk_seg dksX3_sendsOn_10 24 rfl rfl
theorem dX3_sendsOn_0 : decode cX3_sendsOn 0 = .ok (.aload_n 0, 1) := dk_42 (dk_at dksX3_sendsOn_0 0 rfl rfl)
theorem dX3_sendsOn_1 : decode cX3_sendsOn 1 = .ok (.getfield 17, 3) := dk_180 0 17 (dk_at dksX3_sendsOn_0 1 rfl rfl)
theorem dX3_sendsOn_4 : decode cX3_sendsOn 4 = .ok (.iload_n 1, 1) := dk_27 (dk_at dksX3_sendsOn_0 4 rfl rfl)
theorem dX3_sendsOn_5 : decode cX3_sendsOn 5 = .ok (.aaload, 1) := dk_50 (dk_at dksX3_sendsOn_0 5 rfl rfl)
theorem dX3_sendsOn_6 : decode cX3_sendsOn 6 = .ok (.astore_n 3, 1) := dk_78 (dk_at dksX3_sendsOn_0 6 rfl rfl)
theorem dX3_sendsOn_7 : decode cX3_sendsOn 7 = .ok (.aload_n 3, 1) := dk_45 (dk_at dksX3_sendsOn_0 7 rfl rfl)
theorem dX3_sendsOn_8 : decode cX3_sendsOn 8 = .ok (.getfield 145, 3) := dk_180 0 145 (dk_at dksX3_sendsOn_0 8 rfl rfl)
theorem dX3_sendsOn_11 : decode cX3_sendsOn 11 = .ok (.iload_n 2, 1) := dk_28 (dk_at dksX3_sendsOn_0 11 rfl rfl)
theorem dX3_sendsOn_12 : decode cX3_sendsOn 12 = .ok (.iaload, 1) := dk_46 (dk_at dksX3_sendsOn_0 12 rfl rfl)
theorem dX3_sendsOn_13 : decode cX3_sendsOn 13 = .ok (.aload_n 3, 1) := dk_45 (dk_at dksX3_sendsOn_0 13 rfl rfl)
theorem dX3_sendsOn_14 : decode cX3_sendsOn 14 = .ok (.getfield 148, 3) := dk_180 0 148 (dk_at dksX3_sendsOn_0 14 rfl rfl)
theorem dX3_sendsOn_17 : decode cX3_sendsOn 17 = .ok (.if_icmp .gt 82, 3) := dk_163 0 82 (dk_at dksX3_sendsOn_0 17 rfl rfl)
theorem dX3_sendsOn_20 : decode cX3_sendsOn 20 = .ok (.aload_n 0, 1) := dk_42 (dk_at dksX3_sendsOn_0 20 rfl rfl)
theorem dX3_sendsOn_21 : decode cX3_sendsOn 21 = .ok (.iload_n 1, 1) := dk_27 (dk_at dksX3_sendsOn_0 21 rfl rfl)
theorem dX3_sendsOn_22 : decode cX3_sendsOn 22 = .ok (.iload_n 2, 1) := dk_28 (dk_at dksX3_sendsOn_0 22 rfl rfl)
theorem dX3_sendsOn_23 : decode cX3_sendsOn 23 = .ok (.iconst 4, 1) := dk_7 (dk_at dksX3_sendsOn_0 23 rfl rfl)
theorem dX3_sendsOn_24 : decode cX3_sendsOn 24 = .ok (.aload_n 3, 1) := dk_45 (dk_at dksX3_sendsOn_1 0 rfl rfl)
theorem dX3_sendsOn_25 : decode cX3_sendsOn 25 = .ok (.getfield 148, 3) := dk_180 0 148 (dk_at dksX3_sendsOn_1 1 rfl rfl)
theorem dX3_sendsOn_28 : decode cX3_sendsOn 28 = .ok (.aload_n 3, 1) := dk_45 (dk_at dksX3_sendsOn_1 4 rfl rfl)
theorem dX3_sendsOn_29 : decode cX3_sendsOn 29 = .ok (.getfield 151, 3) := dk_180 0 151 (dk_at dksX3_sendsOn_1 5 rfl rfl)
theorem dX3_sendsOn_32 : decode cX3_sendsOn 32 = .ok (.aload_n 3, 1) := dk_45 (dk_at dksX3_sendsOn_1 8 rfl rfl)
theorem dX3_sendsOn_33 : decode cX3_sendsOn 33 = .ok (.getfield 154, 3) := dk_180 0 154 (dk_at dksX3_sendsOn_1 9 rfl rfl)
theorem dX3_sendsOn_36 : decode cX3_sendsOn 36 = .ok (.iconst 0, 1) := dk_3 (dk_at dksX3_sendsOn_1 12 rfl rfl)
theorem dX3_sendsOn_37 : decode cX3_sendsOn 37 = .ok (.invokevirtual 138, 3) := dk_182 0 138 (dk_at dksX3_sendsOn_1 13 rfl rfl)
theorem dX3_sendsOn_40 : decode cX3_sendsOn 40 = .ok (.pop, 1) := dk_87 (dk_at dksX3_sendsOn_1 16 rfl rfl)
theorem dX3_sendsOn_41 : decode cX3_sendsOn 41 = .ok (.aload_n 0, 1) := dk_42 (dk_at dksX3_sendsOn_1 17 rfl rfl)
theorem dX3_sendsOn_42 : decode cX3_sendsOn 42 = .ok (.getfield 39, 3) := dk_180 0 39 (dk_at dksX3_sendsOn_1 18 rfl rfl)
theorem dX3_sendsOn_45 : decode cX3_sendsOn 45 = .ok (.bipush 10, 2) := dk_16 10 (dk_at dksX3_sendsOn_1 21 rfl rfl)
theorem dX3_sendsOn_47 : decode cX3_sendsOn 47 = .ok (.aload_n 3, 1) := dk_45 (dk_at dksX3_sendsOn_1 23 rfl rfl)
theorem dX3_sendsOn_48 : decode cX3_sendsOn 48 = .ok (.getfield 157, 3) := dk_180 0 157 (dk_at dksX3_sendsOn_2 0 rfl rfl)
theorem dX3_sendsOn_51 : decode cX3_sendsOn 51 = .ok (.iastore, 1) := dk_79 (dk_at dksX3_sendsOn_2 3 rfl rfl)
theorem dX3_sendsOn_52 : decode cX3_sendsOn 52 = .ok (.aload_n 0, 1) := dk_42 (dk_at dksX3_sendsOn_2 4 rfl rfl)
theorem dX3_sendsOn_53 : decode cX3_sendsOn 53 = .ok (.getfield 39, 3) := dk_180 0 39 (dk_at dksX3_sendsOn_2 5 rfl rfl)
theorem dX3_sendsOn_56 : decode cX3_sendsOn 56 = .ok (.bipush 11, 2) := dk_16 11 (dk_at dksX3_sendsOn_2 8 rfl rfl)
theorem dX3_sendsOn_58 : decode cX3_sendsOn 58 = .ok (.aload_n 3, 1) := dk_45 (dk_at dksX3_sendsOn_2 10 rfl rfl)
theorem dX3_sendsOn_59 : decode cX3_sendsOn 59 = .ok (.getfield 160, 3) := dk_180 0 160 (dk_at dksX3_sendsOn_2 11 rfl rfl)
theorem dX3_sendsOn_62 : decode cX3_sendsOn 62 = .ok (.iastore, 1) := dk_79 (dk_at dksX3_sendsOn_2 14 rfl rfl)
theorem dX3_sendsOn_63 : decode cX3_sendsOn 63 = .ok (.iconst 0, 1) := dk_3 (dk_at dksX3_sendsOn_2 15 rfl rfl)
theorem dX3_sendsOn_64 : decode cX3_sendsOn 64 = .ok (.istore 4, 2) := dk_54 4 (dk_at dksX3_sendsOn_2 16 rfl rfl)
theorem dX3_sendsOn_66 : decode cX3_sendsOn 66 = .ok (.iload 4, 2) := dk_21 4 (dk_at dksX3_sendsOn_2 18 rfl rfl)
theorem dX3_sendsOn_68 : decode cX3_sendsOn 68 = .ok (.bipush 8, 2) := dk_16 8 (dk_at dksX3_sendsOn_2 20 rfl rfl)
theorem dX3_sendsOn_70 : decode cX3_sendsOn 70 = .ok (.if_icmp .ge 26, 3) := dk_162 0 26 (dk_at dksX3_sendsOn_3 0 rfl rfl)
theorem dX3_sendsOn_73 : decode cX3_sendsOn 73 = .ok (.aload_n 0, 1) := dk_42 (dk_at dksX3_sendsOn_3 3 rfl rfl)
theorem dX3_sendsOn_74 : decode cX3_sendsOn 74 = .ok (.getfield 39, 3) := dk_180 0 39 (dk_at dksX3_sendsOn_3 4 rfl rfl)
theorem dX3_sendsOn_77 : decode cX3_sendsOn 77 = .ok (.bipush 12, 2) := dk_16 12 (dk_at dksX3_sendsOn_3 7 rfl rfl)
theorem dX3_sendsOn_79 : decode cX3_sendsOn 79 = .ok (.iload 4, 2) := dk_21 4 (dk_at dksX3_sendsOn_3 9 rfl rfl)
theorem dX3_sendsOn_81 : decode cX3_sendsOn 81 = .ok (.iadd, 1) := dk_96 (dk_at dksX3_sendsOn_3 11 rfl rfl)
theorem dX3_sendsOn_82 : decode cX3_sendsOn 82 = .ok (.aload_n 3, 1) := dk_45 (dk_at dksX3_sendsOn_3 12 rfl rfl)
theorem dX3_sendsOn_83 : decode cX3_sendsOn 83 = .ok (.getfield 163, 3) := dk_180 0 163 (dk_at dksX3_sendsOn_3 13 rfl rfl)
theorem dX3_sendsOn_86 : decode cX3_sendsOn 86 = .ok (.iload 4, 2) := dk_21 4 (dk_at dksX3_sendsOn_3 16 rfl rfl)
theorem dX3_sendsOn_88 : decode cX3_sendsOn 88 = .ok (.iaload, 1) := dk_46 (dk_at dksX3_sendsOn_3 18 rfl rfl)
theorem dX3_sendsOn_89 : decode cX3_sendsOn 89 = .ok (.iastore, 1) := dk_79 (dk_at dksX3_sendsOn_3 19 rfl rfl)
theorem dX3_sendsOn_90 : decode cX3_sendsOn 90 = .ok (.iinc 4 1, 3) := dk_132 4 1 (dk_at dksX3_sendsOn_3 20 rfl rfl)
theorem dX3_sendsOn_93 : decode cX3_sendsOn 93 = .ok (.goto (-27), 3) := dk_167 255 229 (dk_at dksX3_sendsOn_4 0 rfl rfl)
theorem dX3_sendsOn_96 : decode cX3_sendsOn 96 = .ok (.goto 170, 3) := dk_167 0 170 (dk_at dksX3_sendsOn_4 3 rfl rfl)
theorem dX3_sendsOn_99 : decode cX3_sendsOn 99 = .ok (.aload_n 3, 1) := dk_45 (dk_at dksX3_sendsOn_4 6 rfl rfl)
theorem dX3_sendsOn_100 : decode cX3_sendsOn 100 = .ok (.getfield 145, 3) := dk_180 0 145 (dk_at dksX3_sendsOn_4 7 rfl rfl)
theorem dX3_sendsOn_103 : decode cX3_sendsOn 103 = .ok (.iload_n 2, 1) := dk_28 (dk_at dksX3_sendsOn_4 10 rfl rfl)
theorem dX3_sendsOn_104 : decode cX3_sendsOn 104 = .ok (.iaload, 1) := dk_46 (dk_at dksX3_sendsOn_4 11 rfl rfl)
theorem dX3_sendsOn_105 : decode cX3_sendsOn 105 = .ok (.iconst 1, 1) := dk_4 (dk_at dksX3_sendsOn_4 12 rfl rfl)
theorem dX3_sendsOn_106 : decode cX3_sendsOn 106 = .ok (.isub, 1) := dk_100 (dk_at dksX3_sendsOn_4 13 rfl rfl)
theorem dX3_sendsOn_107 : decode cX3_sendsOn 107 = .ok (.istore 4, 2) := dk_54 4 (dk_at dksX3_sendsOn_4 14 rfl rfl)
theorem dX3_sendsOn_109 : decode cX3_sendsOn 109 = .ok (.aload_n 0, 1) := dk_42 (dk_at dksX3_sendsOn_4 16 rfl rfl)
theorem dX3_sendsOn_110 : decode cX3_sendsOn 110 = .ok (.iload_n 1, 1) := dk_27 (dk_at dksX3_sendsOn_4 17 rfl rfl)
theorem dX3_sendsOn_111 : decode cX3_sendsOn 111 = .ok (.iload_n 2, 1) := dk_28 (dk_at dksX3_sendsOn_4 18 rfl rfl)
theorem dX3_sendsOn_112 : decode cX3_sendsOn 112 = .ok (.iconst 2, 1) := dk_5 (dk_at dksX3_sendsOn_4 19 rfl rfl)
theorem dX3_sendsOn_113 : decode cX3_sendsOn 113 = .ok (.iload 4, 2) := dk_21 4 (dk_at dksX3_sendsOn_4 20 rfl rfl)
theorem dX3_sendsOn_115 : decode cX3_sendsOn 115 = .ok (.aload_n 3, 1) := dk_45 (dk_at dksX3_sendsOn_4 22 rfl rfl)
theorem dX3_sendsOn_116 : decode cX3_sendsOn 116 = .ok (.iload 4, 2) := dk_21 4 (dk_at dksX3_sendsOn_5 0 rfl rfl)
theorem dX3_sendsOn_118 : decode cX3_sendsOn 118 = .ok (.invokevirtual 166, 3) := dk_182 0 166 (dk_at dksX3_sendsOn_5 2 rfl rfl)
theorem dX3_sendsOn_121 : decode cX3_sendsOn 121 = .ok (.aload_n 3, 1) := dk_45 (dk_at dksX3_sendsOn_5 5 rfl rfl)
theorem dX3_sendsOn_122 : decode cX3_sendsOn 122 = .ok (.getfield 170, 3) := dk_180 0 170 (dk_at dksX3_sendsOn_5 6 rfl rfl)
theorem dX3_sendsOn_125 : decode cX3_sendsOn 125 = .ok (.aload_n 3, 1) := dk_45 (dk_at dksX3_sendsOn_5 9 rfl rfl)
theorem dX3_sendsOn_126 : decode cX3_sendsOn 126 = .ok (.getfield 154, 3) := dk_180 0 154 (dk_at dksX3_sendsOn_5 10 rfl rfl)
theorem dX3_sendsOn_129 : decode cX3_sendsOn 129 = .ok (.invokevirtual 138, 3) := dk_182 0 138 (dk_at dksX3_sendsOn_5 13 rfl rfl)
theorem dX3_sendsOn_132 : decode cX3_sendsOn 132 = .ok (.pop, 1) := dk_87 (dk_at dksX3_sendsOn_5 16 rfl rfl)
theorem dX3_sendsOn_133 : decode cX3_sendsOn 133 = .ok (.aload_n 0, 1) := dk_42 (dk_at dksX3_sendsOn_5 17 rfl rfl)
theorem dX3_sendsOn_134 : decode cX3_sendsOn 134 = .ok (.getfield 39, 3) := dk_180 0 39 (dk_at dksX3_sendsOn_5 18 rfl rfl)
theorem dX3_sendsOn_137 : decode cX3_sendsOn 137 = .ok (.bipush 9, 2) := dk_16 9 (dk_at dksX3_sendsOn_5 21 rfl rfl)
theorem dX3_sendsOn_139 : decode cX3_sendsOn 139 = .ok (.iconst 4, 1) := dk_7 (dk_at dksX3_sendsOn_5 23 rfl rfl)
theorem dX3_sendsOn_140 : decode cX3_sendsOn 140 = .ok (.aload_n 3, 1) := dk_45 (dk_at dksX3_sendsOn_6 0 rfl rfl)
theorem dX3_sendsOn_141 : decode cX3_sendsOn 141 = .ok (.invokevirtual 173, 3) := dk_182 0 173 (dk_at dksX3_sendsOn_6 1 rfl rfl)
theorem dX3_sendsOn_144 : decode cX3_sendsOn 144 = .ok (.iload 4, 2) := dk_21 4 (dk_at dksX3_sendsOn_6 4 rfl rfl)
theorem dX3_sendsOn_146 : decode cX3_sendsOn 146 = .ok (.isub, 1) := dk_100 (dk_at dksX3_sendsOn_6 6 rfl rfl)
theorem dX3_sendsOn_147 : decode cX3_sendsOn 147 = .ok (.invokestatic 115, 3) := dk_184 0 115 (dk_at dksX3_sendsOn_6 7 rfl rfl)
theorem dX3_sendsOn_150 : decode cX3_sendsOn 150 = .ok (.iastore, 1) := dk_79 (dk_at dksX3_sendsOn_6 10 rfl rfl)
theorem dX3_sendsOn_151 : decode cX3_sendsOn 151 = .ok (.iconst 0, 1) := dk_3 (dk_at dksX3_sendsOn_6 11 rfl rfl)
theorem dX3_sendsOn_152 : decode cX3_sendsOn 152 = .ok (.istore 5, 2) := dk_54 5 (dk_at dksX3_sendsOn_6 12 rfl rfl)
theorem dX3_sendsOn_154 : decode cX3_sendsOn 154 = .ok (.iload 5, 2) := dk_21 5 (dk_at dksX3_sendsOn_6 14 rfl rfl)
theorem dX3_sendsOn_156 : decode cX3_sendsOn 156 = .ok (.aload_n 0, 1) := dk_42 (dk_at dksX3_sendsOn_6 16 rfl rfl)
theorem dX3_sendsOn_157 : decode cX3_sendsOn 157 = .ok (.getfield 39, 3) := dk_180 0 39 (dk_at dksX3_sendsOn_6 17 rfl rfl)
theorem dX3_sendsOn_160 : decode cX3_sendsOn 160 = .ok (.bipush 9, 2) := dk_16 9 (dk_at dksX3_sendsOn_6 20 rfl rfl)
theorem dX3_sendsOn_162 : decode cX3_sendsOn 162 = .ok (.iaload, 1) := dk_46 (dk_at dksX3_sendsOn_6 22 rfl rfl)
theorem dX3_sendsOn_163 : decode cX3_sendsOn 163 = .ok (.if_icmp .ge 103, 3) := dk_162 0 103 (dk_at dksX3_sendsOn_7 0 rfl rfl)
theorem dX3_sendsOn_166 : decode cX3_sendsOn 166 = .ok (.iload 4, 2) := dk_21 4 (dk_at dksX3_sendsOn_7 3 rfl rfl)
theorem dX3_sendsOn_168 : decode cX3_sendsOn 168 = .ok (.aload_n 3, 1) := dk_45 (dk_at dksX3_sendsOn_7 5 rfl rfl)
theorem dX3_sendsOn_169 : decode cX3_sendsOn 169 = .ok (.getfield 148, 3) := dk_180 0 148 (dk_at dksX3_sendsOn_7 6 rfl rfl)
theorem dX3_sendsOn_172 : decode cX3_sendsOn 172 = .ok (.isub, 1) := dk_100 (dk_at dksX3_sendsOn_7 9 rfl rfl)
theorem dX3_sendsOn_173 : decode cX3_sendsOn 173 = .ok (.iload 5, 2) := dk_21 5 (dk_at dksX3_sendsOn_7 10 rfl rfl)
theorem dX3_sendsOn_175 : decode cX3_sendsOn 175 = .ok (.iadd, 1) := dk_96 (dk_at dksX3_sendsOn_7 12 rfl rfl)
theorem dX3_sendsOn_176 : decode cX3_sendsOn 176 = .ok (.istore 6, 2) := dk_54 6 (dk_at dksX3_sendsOn_7 13 rfl rfl)
theorem dX3_sendsOn_178 : decode cX3_sendsOn 178 = .ok (.aload_n 0, 1) := dk_42 (dk_at dksX3_sendsOn_7 15 rfl rfl)
theorem dX3_sendsOn_179 : decode cX3_sendsOn 179 = .ok (.getfield 39, 3) := dk_180 0 39 (dk_at dksX3_sendsOn_7 16 rfl rfl)
theorem dX3_sendsOn_182 : decode cX3_sendsOn 182 = .ok (.bipush 10, 2) := dk_16 10 (dk_at dksX3_sendsOn_7 19 rfl rfl)
theorem dX3_sendsOn_184 : decode cX3_sendsOn 184 = .ok (.iconst 4, 1) := dk_7 (dk_at dksX3_sendsOn_7 21 rfl rfl)
theorem dX3_sendsOn_185 : decode cX3_sendsOn 185 = .ok (.iload 5, 2) := dk_21 5 (dk_at dksX3_sendsOn_7 22 rfl rfl)
theorem dX3_sendsOn_187 : decode cX3_sendsOn 187 = .ok (.imul, 1) := dk_104 (dk_at dksX3_sendsOn_8 0 rfl rfl)
theorem dX3_sendsOn_188 : decode cX3_sendsOn 188 = .ok (.iadd, 1) := dk_96 (dk_at dksX3_sendsOn_8 1 rfl rfl)
theorem dX3_sendsOn_189 : decode cX3_sendsOn 189 = .ok (.aload_n 3, 1) := dk_45 (dk_at dksX3_sendsOn_8 2 rfl rfl)
theorem dX3_sendsOn_190 : decode cX3_sendsOn 190 = .ok (.getfield 176, 3) := dk_180 0 176 (dk_at dksX3_sendsOn_8 3 rfl rfl)
theorem dX3_sendsOn_193 : decode cX3_sendsOn 193 = .ok (.iload 6, 2) := dk_21 6 (dk_at dksX3_sendsOn_8 6 rfl rfl)
theorem dX3_sendsOn_195 : decode cX3_sendsOn 195 = .ok (.iaload, 1) := dk_46 (dk_at dksX3_sendsOn_8 8 rfl rfl)
theorem dX3_sendsOn_196 : decode cX3_sendsOn 196 = .ok (.iastore, 1) := dk_79 (dk_at dksX3_sendsOn_8 9 rfl rfl)
theorem dX3_sendsOn_197 : decode cX3_sendsOn 197 = .ok (.aload_n 0, 1) := dk_42 (dk_at dksX3_sendsOn_8 10 rfl rfl)
theorem dX3_sendsOn_198 : decode cX3_sendsOn 198 = .ok (.getfield 39, 3) := dk_180 0 39 (dk_at dksX3_sendsOn_8 11 rfl rfl)
theorem dX3_sendsOn_201 : decode cX3_sendsOn 201 = .ok (.bipush 10, 2) := dk_16 10 (dk_at dksX3_sendsOn_8 14 rfl rfl)
theorem dX3_sendsOn_203 : decode cX3_sendsOn 203 = .ok (.iconst 4, 1) := dk_7 (dk_at dksX3_sendsOn_8 16 rfl rfl)
theorem dX3_sendsOn_204 : decode cX3_sendsOn 204 = .ok (.iload 5, 2) := dk_21 5 (dk_at dksX3_sendsOn_8 17 rfl rfl)
theorem dX3_sendsOn_206 : decode cX3_sendsOn 206 = .ok (.imul, 1) := dk_104 (dk_at dksX3_sendsOn_8 19 rfl rfl)
theorem dX3_sendsOn_207 : decode cX3_sendsOn 207 = .ok (.iadd, 1) := dk_96 (dk_at dksX3_sendsOn_8 20 rfl rfl)
theorem dX3_sendsOn_208 : decode cX3_sendsOn 208 = .ok (.iconst 1, 1) := dk_4 (dk_at dksX3_sendsOn_8 21 rfl rfl)
theorem dX3_sendsOn_209 : decode cX3_sendsOn 209 = .ok (.iadd, 1) := dk_96 (dk_at dksX3_sendsOn_8 22 rfl rfl)
theorem dX3_sendsOn_210 : decode cX3_sendsOn 210 = .ok (.aload_n 3, 1) := dk_45 (dk_at dksX3_sendsOn_8 23 rfl rfl)
theorem dX3_sendsOn_211 : decode cX3_sendsOn 211 = .ok (.getfield 179, 3) := dk_180 0 179 (dk_at dksX3_sendsOn_9 0 rfl rfl)
theorem dX3_sendsOn_214 : decode cX3_sendsOn 214 = .ok (.iload 6, 2) := dk_21 6 (dk_at dksX3_sendsOn_9 3 rfl rfl)
theorem dX3_sendsOn_216 : decode cX3_sendsOn 216 = .ok (.iaload, 1) := dk_46 (dk_at dksX3_sendsOn_9 5 rfl rfl)
theorem dX3_sendsOn_217 : decode cX3_sendsOn 217 = .ok (.iastore, 1) := dk_79 (dk_at dksX3_sendsOn_9 6 rfl rfl)
theorem dX3_sendsOn_218 : decode cX3_sendsOn 218 = .ok (.aload_n 0, 1) := dk_42 (dk_at dksX3_sendsOn_9 7 rfl rfl)
theorem dX3_sendsOn_219 : decode cX3_sendsOn 219 = .ok (.getfield 39, 3) := dk_180 0 39 (dk_at dksX3_sendsOn_9 8 rfl rfl)
theorem dX3_sendsOn_222 : decode cX3_sendsOn 222 = .ok (.bipush 10, 2) := dk_16 10 (dk_at dksX3_sendsOn_9 11 rfl rfl)
theorem dX3_sendsOn_224 : decode cX3_sendsOn 224 = .ok (.iconst 4, 1) := dk_7 (dk_at dksX3_sendsOn_9 13 rfl rfl)
theorem dX3_sendsOn_225 : decode cX3_sendsOn 225 = .ok (.iload 5, 2) := dk_21 5 (dk_at dksX3_sendsOn_9 14 rfl rfl)
theorem dX3_sendsOn_227 : decode cX3_sendsOn 227 = .ok (.imul, 1) := dk_104 (dk_at dksX3_sendsOn_9 16 rfl rfl)
theorem dX3_sendsOn_228 : decode cX3_sendsOn 228 = .ok (.iadd, 1) := dk_96 (dk_at dksX3_sendsOn_9 17 rfl rfl)
theorem dX3_sendsOn_229 : decode cX3_sendsOn 229 = .ok (.iconst 2, 1) := dk_5 (dk_at dksX3_sendsOn_9 18 rfl rfl)
theorem dX3_sendsOn_230 : decode cX3_sendsOn 230 = .ok (.iadd, 1) := dk_96 (dk_at dksX3_sendsOn_9 19 rfl rfl)
theorem dX3_sendsOn_231 : decode cX3_sendsOn 231 = .ok (.aload_n 3, 1) := dk_45 (dk_at dksX3_sendsOn_9 20 rfl rfl)
theorem dX3_sendsOn_232 : decode cX3_sendsOn 232 = .ok (.getfield 182, 3) := dk_180 0 182 (dk_at dksX3_sendsOn_9 21 rfl rfl)
theorem dX3_sendsOn_235 : decode cX3_sendsOn 235 = .ok (.iload 6, 2) := dk_21 6 (dk_at dksX3_sendsOn_10 0 rfl rfl)
theorem dX3_sendsOn_237 : decode cX3_sendsOn 237 = .ok (.iaload, 1) := dk_46 (dk_at dksX3_sendsOn_10 2 rfl rfl)
theorem dX3_sendsOn_238 : decode cX3_sendsOn 238 = .ok (.iastore, 1) := dk_79 (dk_at dksX3_sendsOn_10 3 rfl rfl)
theorem dX3_sendsOn_239 : decode cX3_sendsOn 239 = .ok (.aload_n 0, 1) := dk_42 (dk_at dksX3_sendsOn_10 4 rfl rfl)
theorem dX3_sendsOn_240 : decode cX3_sendsOn 240 = .ok (.getfield 39, 3) := dk_180 0 39 (dk_at dksX3_sendsOn_10 5 rfl rfl)
theorem dX3_sendsOn_243 : decode cX3_sendsOn 243 = .ok (.bipush 10, 2) := dk_16 10 (dk_at dksX3_sendsOn_10 8 rfl rfl)
theorem dX3_sendsOn_245 : decode cX3_sendsOn 245 = .ok (.iconst 4, 1) := dk_7 (dk_at dksX3_sendsOn_10 10 rfl rfl)
theorem dX3_sendsOn_246 : decode cX3_sendsOn 246 = .ok (.iload 5, 2) := dk_21 5 (dk_at dksX3_sendsOn_10 11 rfl rfl)
theorem dX3_sendsOn_248 : decode cX3_sendsOn 248 = .ok (.imul, 1) := dk_104 (dk_at dksX3_sendsOn_10 13 rfl rfl)
theorem dX3_sendsOn_249 : decode cX3_sendsOn 249 = .ok (.iadd, 1) := dk_96 (dk_at dksX3_sendsOn_10 14 rfl rfl)
theorem dX3_sendsOn_250 : decode cX3_sendsOn 250 = .ok (.iconst 3, 1) := dk_6 (dk_at dksX3_sendsOn_10 15 rfl rfl)
theorem dX3_sendsOn_251 : decode cX3_sendsOn 251 = .ok (.iadd, 1) := dk_96 (dk_at dksX3_sendsOn_10 16 rfl rfl)
theorem dX3_sendsOn_252 : decode cX3_sendsOn 252 = .ok (.aload_n 3, 1) := dk_45 (dk_at dksX3_sendsOn_10 17 rfl rfl)
theorem dX3_sendsOn_253 : decode cX3_sendsOn 253 = .ok (.getfield 185, 3) := dk_180 0 185 (dk_at dksX3_sendsOn_10 18 rfl rfl)
theorem dX3_sendsOn_256 : decode cX3_sendsOn 256 = .ok (.iload 6, 2) := dk_21 6 (dk_at dksX3_sendsOn_10 21 rfl rfl)
theorem dX3_sendsOn_258 : decode cX3_sendsOn 258 = .ok (.iaload, 1) := dk_46 (dk_at dksX3_sendsOn_10 23 rfl rfl)
theorem dX3_sendsOn_259 : decode cX3_sendsOn 259 = .ok (.iastore, 1) := dk_79 (dk_at dksX3_sendsOn_11 0 rfl rfl)
theorem dX3_sendsOn_260 : decode cX3_sendsOn 260 = .ok (.iinc 5 1, 3) := dk_132 5 1 (dk_at dksX3_sendsOn_11 1 rfl rfl)
theorem dX3_sendsOn_263 : decode cX3_sendsOn 263 = .ok (.goto (-109), 3) := dk_167 255 147 (dk_at dksX3_sendsOn_11 4 rfl rfl)
theorem dX3_sendsOn_266 : decode cX3_sendsOn 266 = .ok (.aload_n 0, 1) := dk_42 (dk_at dksX3_sendsOn_11 7 rfl rfl)
theorem dX3_sendsOn_267 : decode cX3_sendsOn 267 = .ok (.invokevirtual 142, 3) := dk_182 0 142 (dk_at dksX3_sendsOn_11 8 rfl rfl)
theorem dX3_sendsOn_270 : decode cX3_sendsOn 270 = .ok (.return_, 1) := dk_177 (dk_at dksX3_sendsOn_11 11 rfl rfl)
abbrev cX3_writes : ByteArray := prog_3_method_8_code
def yX3_writes : MethodName := ⟨RX3, "writes", "(IIIIIII)[I"⟩
def dkwX3_writes_3 : List UInt8 := [21, 7, 79, 42, 180, 0, 39, 16, 9, 3, 79, 42, 180, 0, 39, 176]
abbrev dktX3_writes_3 : List UInt8 := dkwX3_writes_3 ++ []
def dkwX3_writes_2 : List UInt8 := [180, 0, 39, 16, 6, 21, 5, 79, 42, 180, 0, 39, 16, 7, 21, 6, 79, 42, 180, 0, 39, 16, 8]
abbrev dktX3_writes_2 : List UInt8 := dkwX3_writes_2 ++ dktX3_writes_3
def dkwX3_writes_1 : List UInt8 := [180, 0, 39, 6, 42, 180, 0, 17, 27, 50, 180, 0, 92, 79, 42, 180, 0, 39, 8, 21, 4, 79, 42]
abbrev dktX3_writes_1 : List UInt8 := dkwX3_writes_1 ++ dktX3_writes_2
def dkwX3_writes_0 : List UInt8 := [42, 180, 0, 39, 3, 27, 79, 42, 180, 0, 39, 4, 28, 79, 42, 180, 0, 39, 5, 29, 79, 42]
abbrev dktX3_writes_0 : List UInt8 := dkwX3_writes_0 ++ dktX3_writes_1
theorem dksX3_writes_0 : cX3_writes.data.toList.drop 0 = dktX3_writes_0 := by decide +kernel
theorem dksX3_writes_1 : cX3_writes.data.toList.drop 22 = dktX3_writes_1 := dk_seg dksX3_writes_0 22 rfl rfl
theorem dksX3_writes_2 : cX3_writes.data.toList.drop 45 = dktX3_writes_2 := dk_seg dksX3_writes_1 23 rfl rfl
theorem dksX3_writes_3 : cX3_writes.data.toList.drop 68 = dktX3_writes_3 := dk_seg dksX3_writes_2 23 rfl rfl
theorem dX3_writes_0 : decode cX3_writes 0 = .ok (.aload_n 0, 1) := dk_42 (dk_at dksX3_writes_0 0 rfl rfl)
theorem dX3_writes_1 : decode cX3_writes 1 = .ok (.getfield 39, 3) := dk_180 0 39 (dk_at dksX3_writes_0 1 rfl rfl)
theorem dX3_writes_4 : decode cX3_writes 4 = .ok (.iconst 0, 1) := dk_3 (dk_at dksX3_writes_0 4 rfl rfl)
theorem dX3_writes_5 : decode cX3_writes 5 = .ok (.iload_n 1, 1) := dk_27 (dk_at dksX3_writes_0 5 rfl rfl)
theorem dX3_writes_6 : decode cX3_writes 6 = .ok (.iastore, 1) := dk_79 (dk_at dksX3_writes_0 6 rfl rfl)
theorem dX3_writes_7 : decode cX3_writes 7 = .ok (.aload_n 0, 1) := dk_42 (dk_at dksX3_writes_0 7 rfl rfl)
theorem dX3_writes_8 : decode cX3_writes 8 = .ok (.getfield 39, 3) := dk_180 0 39 (dk_at dksX3_writes_0 8 rfl rfl)
theorem dX3_writes_11 : decode cX3_writes 11 = .ok (.iconst 1, 1) := dk_4 (dk_at dksX3_writes_0 11 rfl rfl)
theorem dX3_writes_12 : decode cX3_writes 12 = .ok (.iload_n 2, 1) := dk_28 (dk_at dksX3_writes_0 12 rfl rfl)
theorem dX3_writes_13 : decode cX3_writes 13 = .ok (.iastore, 1) := dk_79 (dk_at dksX3_writes_0 13 rfl rfl)
theorem dX3_writes_14 : decode cX3_writes 14 = .ok (.aload_n 0, 1) := dk_42 (dk_at dksX3_writes_0 14 rfl rfl)
theorem dX3_writes_15 : decode cX3_writes 15 = .ok (.getfield 39, 3) := dk_180 0 39 (dk_at dksX3_writes_0 15 rfl rfl)
theorem dX3_writes_18 : decode cX3_writes 18 = .ok (.iconst 2, 1) := dk_5 (dk_at dksX3_writes_0 18 rfl rfl)
theorem dX3_writes_19 : decode cX3_writes 19 = .ok (.iload_n 3, 1) := dk_29 (dk_at dksX3_writes_0 19 rfl rfl)
theorem dX3_writes_20 : decode cX3_writes 20 = .ok (.iastore, 1) := dk_79 (dk_at dksX3_writes_0 20 rfl rfl)
theorem dX3_writes_21 : decode cX3_writes 21 = .ok (.aload_n 0, 1) := dk_42 (dk_at dksX3_writes_0 21 rfl rfl)
theorem dX3_writes_22 : decode cX3_writes 22 = .ok (.getfield 39, 3) := dk_180 0 39 (dk_at dksX3_writes_1 0 rfl rfl)
theorem dX3_writes_25 : decode cX3_writes 25 = .ok (.iconst 3, 1) := dk_6 (dk_at dksX3_writes_1 3 rfl rfl)
theorem dX3_writes_26 : decode cX3_writes 26 = .ok (.aload_n 0, 1) := dk_42 (dk_at dksX3_writes_1 4 rfl rfl)
theorem dX3_writes_27 : decode cX3_writes 27 = .ok (.getfield 17, 3) := dk_180 0 17 (dk_at dksX3_writes_1 5 rfl rfl)
theorem dX3_writes_30 : decode cX3_writes 30 = .ok (.iload_n 1, 1) := dk_27 (dk_at dksX3_writes_1 8 rfl rfl)
theorem dX3_writes_31 : decode cX3_writes 31 = .ok (.aaload, 1) := dk_50 (dk_at dksX3_writes_1 9 rfl rfl)
theorem dX3_writes_32 : decode cX3_writes 32 = .ok (.getfield 92, 3) := dk_180 0 92 (dk_at dksX3_writes_1 10 rfl rfl)
theorem dX3_writes_35 : decode cX3_writes 35 = .ok (.iastore, 1) := dk_79 (dk_at dksX3_writes_1 13 rfl rfl)
theorem dX3_writes_36 : decode cX3_writes 36 = .ok (.aload_n 0, 1) := dk_42 (dk_at dksX3_writes_1 14 rfl rfl)
theorem dX3_writes_37 : decode cX3_writes 37 = .ok (.getfield 39, 3) := dk_180 0 39 (dk_at dksX3_writes_1 15 rfl rfl)
theorem dX3_writes_40 : decode cX3_writes 40 = .ok (.iconst 5, 1) := dk_8 (dk_at dksX3_writes_1 18 rfl rfl)
theorem dX3_writes_41 : decode cX3_writes 41 = .ok (.iload 4, 2) := dk_21 4 (dk_at dksX3_writes_1 19 rfl rfl)
theorem dX3_writes_43 : decode cX3_writes 43 = .ok (.iastore, 1) := dk_79 (dk_at dksX3_writes_1 21 rfl rfl)
theorem dX3_writes_44 : decode cX3_writes 44 = .ok (.aload_n 0, 1) := dk_42 (dk_at dksX3_writes_1 22 rfl rfl)
theorem dX3_writes_45 : decode cX3_writes 45 = .ok (.getfield 39, 3) := dk_180 0 39 (dk_at dksX3_writes_2 0 rfl rfl)
theorem dX3_writes_48 : decode cX3_writes 48 = .ok (.bipush 6, 2) := dk_16 6 (dk_at dksX3_writes_2 3 rfl rfl)
theorem dX3_writes_50 : decode cX3_writes 50 = .ok (.iload 5, 2) := dk_21 5 (dk_at dksX3_writes_2 5 rfl rfl)
theorem dX3_writes_52 : decode cX3_writes 52 = .ok (.iastore, 1) := dk_79 (dk_at dksX3_writes_2 7 rfl rfl)
theorem dX3_writes_53 : decode cX3_writes 53 = .ok (.aload_n 0, 1) := dk_42 (dk_at dksX3_writes_2 8 rfl rfl)
theorem dX3_writes_54 : decode cX3_writes 54 = .ok (.getfield 39, 3) := dk_180 0 39 (dk_at dksX3_writes_2 9 rfl rfl)
theorem dX3_writes_57 : decode cX3_writes 57 = .ok (.bipush 7, 2) := dk_16 7 (dk_at dksX3_writes_2 12 rfl rfl)
theorem dX3_writes_59 : decode cX3_writes 59 = .ok (.iload 6, 2) := dk_21 6 (dk_at dksX3_writes_2 14 rfl rfl)
theorem dX3_writes_61 : decode cX3_writes 61 = .ok (.iastore, 1) := dk_79 (dk_at dksX3_writes_2 16 rfl rfl)
theorem dX3_writes_62 : decode cX3_writes 62 = .ok (.aload_n 0, 1) := dk_42 (dk_at dksX3_writes_2 17 rfl rfl)
theorem dX3_writes_63 : decode cX3_writes 63 = .ok (.getfield 39, 3) := dk_180 0 39 (dk_at dksX3_writes_2 18 rfl rfl)
theorem dX3_writes_66 : decode cX3_writes 66 = .ok (.bipush 8, 2) := dk_16 8 (dk_at dksX3_writes_2 21 rfl rfl)
theorem dX3_writes_68 : decode cX3_writes 68 = .ok (.iload 7, 2) := dk_21 7 (dk_at dksX3_writes_3 0 rfl rfl)
theorem dX3_writes_70 : decode cX3_writes 70 = .ok (.iastore, 1) := dk_79 (dk_at dksX3_writes_3 2 rfl rfl)
theorem dX3_writes_71 : decode cX3_writes 71 = .ok (.aload_n 0, 1) := dk_42 (dk_at dksX3_writes_3 3 rfl rfl)
theorem dX3_writes_72 : decode cX3_writes 72 = .ok (.getfield 39, 3) := dk_180 0 39 (dk_at dksX3_writes_3 4 rfl rfl)
theorem dX3_writes_75 : decode cX3_writes 75 = .ok (.bipush 9, 2) := dk_16 9 (dk_at dksX3_writes_3 7 rfl rfl)
theorem dX3_writes_77 : decode cX3_writes 77 = .ok (.iconst 0, 1) := dk_3 (dk_at dksX3_writes_3 9 rfl rfl)
theorem dX3_writes_78 : decode cX3_writes 78 = .ok (.iastore, 1) := dk_79 (dk_at dksX3_writes_3 10 rfl rfl)
theorem dX3_writes_79 : decode cX3_writes 79 = .ok (.aload_n 0, 1) := dk_42 (dk_at dksX3_writes_3 11 rfl rfl)
theorem dX3_writes_80 : decode cX3_writes 80 = .ok (.getfield 39, 3) := dk_180 0 39 (dk_at dksX3_writes_3 12 rfl rfl)
theorem dX3_writes_83 : decode cX3_writes 83 = .ok (.areturn, 1) := dk_176 (dk_at dksX3_writes_3 15 rfl rfl)
abbrev cX3_sends : ByteArray := prog_3_method_9_code
def yX3_sends : MethodName := ⟨RX3, "sends", "()V"⟩
def dkwX3_sends_7 : List UInt8 := [182, 0, 54, 42, 89, 180, 0, 50, 4, 96, 181, 0, 50, 177]
abbrev dktX3_sends_7 : List UInt8 := dkwX3_sends_7 ++ []
def dkwX3_sends_6 : List UInt8 := [182, 0, 109, 16, 9, 184, 0, 132, 96, 79, 42, 42, 180, 0, 39, 42, 180, 0, 23, 42, 180, 0, 50, 50]
abbrev dktX3_sends_6 : List UInt8 := dkwX3_sends_6 ++ dktX3_sends_7
def dkwX3_sends_5 : List UInt8 := [42, 180, 0, 39, 7, 42, 180, 0, 64, 4, 96, 42, 180, 0, 3, 180, 0, 105, 16, 100, 3, 44]
abbrev dktX3_sends_5 : List UInt8 := dkwX3_sends_5 ++ dktX3_sends_6
def dkwX3_sends_4 : List UInt8 := [180, 0, 50, 17, 0, 160, 160, 0, 7, 4, 167, 0, 4, 3, 62, 29, 153, 0, 8, 42, 182, 0, 135, 177]
abbrev dktX3_sends_4 : List UInt8 := dkwX3_sends_4 ++ dktX3_sends_5
def dkwX3_sends_3 : List UInt8 := [180, 0, 3, 180, 0, 105, 16, 108, 3, 44, 182, 0, 109, 16, 10, 184, 0, 132, 161, 0, 13, 42]
abbrev dktX3_sends_3 : List UInt8 := dkwX3_sends_3 ++ dktX3_sends_4
def dkwX3_sends_2 : List UInt8 := [182, 0, 101, 77, 42, 180, 0, 3, 180, 0, 105, 16, 120, 44, 182, 0, 128, 154, 0, 36, 27, 42]
abbrev dktX3_sends_2 : List UInt8 := dkwX3_sends_2 ++ dktX3_sends_3
def dkwX3_sends_1 : List UInt8 := [42, 180, 0, 39, 5, 46, 42, 180, 0, 39, 6, 46, 182, 0, 95, 42, 180, 0, 50, 42, 180, 0, 64, 27]
abbrev dktX3_sends_1 : List UInt8 := dkwX3_sends_1 ++ dktX3_sends_2
def dkwX3_sends_0 : List UInt8 := [42, 182, 0, 84, 60, 42, 180, 0, 3, 180, 0, 88, 42, 180, 0, 39, 3, 46, 42, 180, 0, 39, 4, 46]
abbrev dktX3_sends_0 : List UInt8 := dkwX3_sends_0 ++ dktX3_sends_1
theorem dksX3_sends_0 : cX3_sends.data.toList.drop 0 = dktX3_sends_0 := by decide +kernel
theorem dksX3_sends_1 : cX3_sends.data.toList.drop 24 = dktX3_sends_1 := dk_seg dksX3_sends_0 24 rfl rfl
theorem dksX3_sends_2 : cX3_sends.data.toList.drop 48 = dktX3_sends_2 := dk_seg dksX3_sends_1 24 rfl rfl
theorem dksX3_sends_3 : cX3_sends.data.toList.drop 70 = dktX3_sends_3 := dk_seg dksX3_sends_2 22 rfl rfl
theorem dksX3_sends_4 : cX3_sends.data.toList.drop 92 = dktX3_sends_4 := dk_seg dksX3_sends_3 22 rfl rfl
theorem dksX3_sends_5 : cX3_sends.data.toList.drop 116 = dktX3_sends_5 := dk_seg dksX3_sends_4 24 rfl rfl
theorem dksX3_sends_6 : cX3_sends.data.toList.drop 138 = dktX3_sends_6 := dk_seg dksX3_sends_5 22 rfl rfl
theorem dksX3_sends_7 : cX3_sends.data.toList.drop 162 = dktX3_sends_7 := dk_seg dksX3_sends_6 24 rfl rfl
theorem dX3_sends_0 : decode cX3_sends 0 = .ok (.aload_n 0, 1) := dk_42 (dk_at dksX3_sends_0 0 rfl rfl)
theorem dX3_sends_1 : decode cX3_sends 1 = .ok (.invokevirtual 84, 3) := dk_182 0 84 (dk_at dksX3_sends_0 1 rfl rfl)
theorem dX3_sends_4 : decode cX3_sends 4 = .ok (.istore_n 1, 1) := dk_60 (dk_at dksX3_sends_0 4 rfl rfl)
theorem dX3_sends_5 : decode cX3_sends 5 = .ok (.aload_n 0, 1) := dk_42 (dk_at dksX3_sends_0 5 rfl rfl)
theorem dX3_sends_6 : decode cX3_sends 6 = .ok (.getfield 3, 3) := dk_180 0 3 (dk_at dksX3_sends_0 6 rfl rfl)
theorem dX3_sends_9 : decode cX3_sends 9 = .ok (.getfield 88, 3) := dk_180 0 88 (dk_at dksX3_sends_0 9 rfl rfl)
theorem dX3_sends_12 : decode cX3_sends 12 = .ok (.aload_n 0, 1) := dk_42 (dk_at dksX3_sends_0 12 rfl rfl)
theorem dX3_sends_13 : decode cX3_sends 13 = .ok (.getfield 39, 3) := dk_180 0 39 (dk_at dksX3_sends_0 13 rfl rfl)
theorem dX3_sends_16 : decode cX3_sends 16 = .ok (.iconst 0, 1) := dk_3 (dk_at dksX3_sends_0 16 rfl rfl)
theorem dX3_sends_17 : decode cX3_sends 17 = .ok (.iaload, 1) := dk_46 (dk_at dksX3_sends_0 17 rfl rfl)
theorem dX3_sends_18 : decode cX3_sends 18 = .ok (.aload_n 0, 1) := dk_42 (dk_at dksX3_sends_0 18 rfl rfl)
theorem dX3_sends_19 : decode cX3_sends 19 = .ok (.getfield 39, 3) := dk_180 0 39 (dk_at dksX3_sends_0 19 rfl rfl)
theorem dX3_sends_22 : decode cX3_sends 22 = .ok (.iconst 1, 1) := dk_4 (dk_at dksX3_sends_0 22 rfl rfl)
theorem dX3_sends_23 : decode cX3_sends 23 = .ok (.iaload, 1) := dk_46 (dk_at dksX3_sends_0 23 rfl rfl)
theorem dX3_sends_24 : decode cX3_sends 24 = .ok (.aload_n 0, 1) := dk_42 (dk_at dksX3_sends_1 0 rfl rfl)
theorem dX3_sends_25 : decode cX3_sends 25 = .ok (.getfield 39, 3) := dk_180 0 39 (dk_at dksX3_sends_1 1 rfl rfl)
theorem dX3_sends_28 : decode cX3_sends 28 = .ok (.iconst 2, 1) := dk_5 (dk_at dksX3_sends_1 4 rfl rfl)
theorem dX3_sends_29 : decode cX3_sends 29 = .ok (.iaload, 1) := dk_46 (dk_at dksX3_sends_1 5 rfl rfl)
theorem dX3_sends_30 : decode cX3_sends 30 = .ok (.aload_n 0, 1) := dk_42 (dk_at dksX3_sends_1 6 rfl rfl)
theorem dX3_sends_31 : decode cX3_sends 31 = .ok (.getfield 39, 3) := dk_180 0 39 (dk_at dksX3_sends_1 7 rfl rfl)
theorem dX3_sends_34 : decode cX3_sends 34 = .ok (.iconst 3, 1) := dk_6 (dk_at dksX3_sends_1 10 rfl rfl)
theorem dX3_sends_35 : decode cX3_sends 35 = .ok (.iaload, 1) := dk_46 (dk_at dksX3_sends_1 11 rfl rfl)
theorem dX3_sends_36 : decode cX3_sends 36 = .ok (.invokevirtual 95, 3) := dk_182 0 95 (dk_at dksX3_sends_1 12 rfl rfl)
theorem dX3_sends_39 : decode cX3_sends 39 = .ok (.aload_n 0, 1) := dk_42 (dk_at dksX3_sends_1 15 rfl rfl)
theorem dX3_sends_40 : decode cX3_sends 40 = .ok (.getfield 50, 3) := dk_180 0 50 (dk_at dksX3_sends_1 16 rfl rfl)
theorem dX3_sends_43 : decode cX3_sends 43 = .ok (.aload_n 0, 1) := dk_42 (dk_at dksX3_sends_1 19 rfl rfl)
theorem dX3_sends_44 : decode cX3_sends 44 = .ok (.getfield 64, 3) := dk_180 0 64 (dk_at dksX3_sends_1 20 rfl rfl)
theorem dX3_sends_47 : decode cX3_sends 47 = .ok (.iload_n 1, 1) := dk_27 (dk_at dksX3_sends_1 23 rfl rfl)
theorem dX3_sends_48 : decode cX3_sends 48 = .ok (.invokevirtual 101, 3) := dk_182 0 101 (dk_at dksX3_sends_2 0 rfl rfl)
theorem dX3_sends_51 : decode cX3_sends 51 = .ok (.astore_n 2, 1) := dk_77 (dk_at dksX3_sends_2 3 rfl rfl)
theorem dX3_sends_52 : decode cX3_sends 52 = .ok (.aload_n 0, 1) := dk_42 (dk_at dksX3_sends_2 4 rfl rfl)
theorem dX3_sends_53 : decode cX3_sends 53 = .ok (.getfield 3, 3) := dk_180 0 3 (dk_at dksX3_sends_2 5 rfl rfl)
theorem dX3_sends_56 : decode cX3_sends 56 = .ok (.getfield 105, 3) := dk_180 0 105 (dk_at dksX3_sends_2 8 rfl rfl)
theorem dX3_sends_59 : decode cX3_sends 59 = .ok (.bipush 120, 2) := dk_16 120 (dk_at dksX3_sends_2 11 rfl rfl)
theorem dX3_sends_61 : decode cX3_sends 61 = .ok (.aload_n 2, 1) := dk_44 (dk_at dksX3_sends_2 13 rfl rfl)
theorem dX3_sends_62 : decode cX3_sends 62 = .ok (.invokevirtual 128, 3) := dk_182 0 128 (dk_at dksX3_sends_2 14 rfl rfl)
theorem dX3_sends_65 : decode cX3_sends 65 = .ok (.ifCond .ne 36, 3) := dk_154 0 36 (dk_at dksX3_sends_2 17 rfl rfl)
theorem dX3_sends_68 : decode cX3_sends 68 = .ok (.iload_n 1, 1) := dk_27 (dk_at dksX3_sends_2 20 rfl rfl)
theorem dX3_sends_69 : decode cX3_sends 69 = .ok (.aload_n 0, 1) := dk_42 (dk_at dksX3_sends_2 21 rfl rfl)
theorem dX3_sends_70 : decode cX3_sends 70 = .ok (.getfield 3, 3) := dk_180 0 3 (dk_at dksX3_sends_3 0 rfl rfl)
theorem dX3_sends_73 : decode cX3_sends 73 = .ok (.getfield 105, 3) := dk_180 0 105 (dk_at dksX3_sends_3 3 rfl rfl)
theorem dX3_sends_76 : decode cX3_sends 76 = .ok (.bipush 108, 2) := dk_16 108 (dk_at dksX3_sends_3 6 rfl rfl)
theorem dX3_sends_78 : decode cX3_sends 78 = .ok (.iconst 0, 1) := dk_3 (dk_at dksX3_sends_3 8 rfl rfl)
theorem dX3_sends_79 : decode cX3_sends 79 = .ok (.aload_n 2, 1) := dk_44 (dk_at dksX3_sends_3 9 rfl rfl)
theorem dX3_sends_80 : decode cX3_sends 80 = .ok (.invokevirtual 109, 3) := dk_182 0 109 (dk_at dksX3_sends_3 10 rfl rfl)
theorem dX3_sends_83 : decode cX3_sends 83 = .ok (.bipush 10, 2) := dk_16 10 (dk_at dksX3_sends_3 13 rfl rfl)
theorem dX3_sends_85 : decode cX3_sends 85 = .ok (.invokestatic 132, 3) := dk_184 0 132 (dk_at dksX3_sends_3 15 rfl rfl)
theorem dX3_sends_88 : decode cX3_sends 88 = .ok (.if_icmp .lt 13, 3) := dk_161 0 13 (dk_at dksX3_sends_3 18 rfl rfl)
theorem dX3_sends_91 : decode cX3_sends 91 = .ok (.aload_n 0, 1) := dk_42 (dk_at dksX3_sends_3 21 rfl rfl)
theorem dX3_sends_92 : decode cX3_sends 92 = .ok (.getfield 50, 3) := dk_180 0 50 (dk_at dksX3_sends_4 0 rfl rfl)
theorem dX3_sends_95 : decode cX3_sends 95 = .ok (.sipush 160, 3) := dk_17 0 160 (dk_at dksX3_sends_4 3 rfl rfl)
theorem dX3_sends_98 : decode cX3_sends 98 = .ok (.if_icmp .ne 7, 3) := dk_160 0 7 (dk_at dksX3_sends_4 6 rfl rfl)
theorem dX3_sends_101 : decode cX3_sends 101 = .ok (.iconst 1, 1) := dk_4 (dk_at dksX3_sends_4 9 rfl rfl)
theorem dX3_sends_102 : decode cX3_sends 102 = .ok (.goto 4, 3) := dk_167 0 4 (dk_at dksX3_sends_4 10 rfl rfl)
theorem dX3_sends_105 : decode cX3_sends 105 = .ok (.iconst 0, 1) := dk_3 (dk_at dksX3_sends_4 13 rfl rfl)
theorem dX3_sends_106 : decode cX3_sends 106 = .ok (.istore_n 3, 1) := dk_62 (dk_at dksX3_sends_4 14 rfl rfl)
theorem dX3_sends_107 : decode cX3_sends 107 = .ok (.iload_n 3, 1) := dk_29 (dk_at dksX3_sends_4 15 rfl rfl)
theorem dX3_sends_108 : decode cX3_sends 108 = .ok (.ifCond .eq 8, 3) := dk_153 0 8 (dk_at dksX3_sends_4 16 rfl rfl)
theorem dX3_sends_111 : decode cX3_sends 111 = .ok (.aload_n 0, 1) := dk_42 (dk_at dksX3_sends_4 19 rfl rfl)
theorem dX3_sends_112 : decode cX3_sends 112 = .ok (.invokevirtual 135, 3) := dk_182 0 135 (dk_at dksX3_sends_4 20 rfl rfl)
theorem dX3_sends_115 : decode cX3_sends 115 = .ok (.return_, 1) := dk_177 (dk_at dksX3_sends_4 23 rfl rfl)
theorem dX3_sends_116 : decode cX3_sends 116 = .ok (.aload_n 0, 1) := dk_42 (dk_at dksX3_sends_5 0 rfl rfl)
theorem dX3_sends_117 : decode cX3_sends 117 = .ok (.getfield 39, 3) := dk_180 0 39 (dk_at dksX3_sends_5 1 rfl rfl)
theorem dX3_sends_120 : decode cX3_sends 120 = .ok (.iconst 4, 1) := dk_7 (dk_at dksX3_sends_5 4 rfl rfl)
theorem dX3_sends_121 : decode cX3_sends 121 = .ok (.aload_n 0, 1) := dk_42 (dk_at dksX3_sends_5 5 rfl rfl)
theorem dX3_sends_122 : decode cX3_sends 122 = .ok (.getfield 64, 3) := dk_180 0 64 (dk_at dksX3_sends_5 6 rfl rfl)
theorem dX3_sends_125 : decode cX3_sends 125 = .ok (.iconst 1, 1) := dk_4 (dk_at dksX3_sends_5 9 rfl rfl)
theorem dX3_sends_126 : decode cX3_sends 126 = .ok (.iadd, 1) := dk_96 (dk_at dksX3_sends_5 10 rfl rfl)
theorem dX3_sends_127 : decode cX3_sends 127 = .ok (.aload_n 0, 1) := dk_42 (dk_at dksX3_sends_5 11 rfl rfl)
theorem dX3_sends_128 : decode cX3_sends 128 = .ok (.getfield 3, 3) := dk_180 0 3 (dk_at dksX3_sends_5 12 rfl rfl)
theorem dX3_sends_131 : decode cX3_sends 131 = .ok (.getfield 105, 3) := dk_180 0 105 (dk_at dksX3_sends_5 15 rfl rfl)
theorem dX3_sends_134 : decode cX3_sends 134 = .ok (.bipush 100, 2) := dk_16 100 (dk_at dksX3_sends_5 18 rfl rfl)
theorem dX3_sends_136 : decode cX3_sends 136 = .ok (.iconst 0, 1) := dk_3 (dk_at dksX3_sends_5 20 rfl rfl)
theorem dX3_sends_137 : decode cX3_sends 137 = .ok (.aload_n 2, 1) := dk_44 (dk_at dksX3_sends_5 21 rfl rfl)
theorem dX3_sends_138 : decode cX3_sends 138 = .ok (.invokevirtual 109, 3) := dk_182 0 109 (dk_at dksX3_sends_6 0 rfl rfl)
theorem dX3_sends_141 : decode cX3_sends 141 = .ok (.bipush 9, 2) := dk_16 9 (dk_at dksX3_sends_6 3 rfl rfl)
theorem dX3_sends_143 : decode cX3_sends 143 = .ok (.invokestatic 132, 3) := dk_184 0 132 (dk_at dksX3_sends_6 5 rfl rfl)
theorem dX3_sends_146 : decode cX3_sends 146 = .ok (.iadd, 1) := dk_96 (dk_at dksX3_sends_6 8 rfl rfl)
theorem dX3_sends_147 : decode cX3_sends 147 = .ok (.iastore, 1) := dk_79 (dk_at dksX3_sends_6 9 rfl rfl)
theorem dX3_sends_148 : decode cX3_sends 148 = .ok (.aload_n 0, 1) := dk_42 (dk_at dksX3_sends_6 10 rfl rfl)
theorem dX3_sends_149 : decode cX3_sends 149 = .ok (.aload_n 0, 1) := dk_42 (dk_at dksX3_sends_6 11 rfl rfl)
theorem dX3_sends_150 : decode cX3_sends 150 = .ok (.getfield 39, 3) := dk_180 0 39 (dk_at dksX3_sends_6 12 rfl rfl)
theorem dX3_sends_153 : decode cX3_sends 153 = .ok (.aload_n 0, 1) := dk_42 (dk_at dksX3_sends_6 15 rfl rfl)
theorem dX3_sends_154 : decode cX3_sends 154 = .ok (.getfield 23, 3) := dk_180 0 23 (dk_at dksX3_sends_6 16 rfl rfl)
theorem dX3_sends_157 : decode cX3_sends 157 = .ok (.aload_n 0, 1) := dk_42 (dk_at dksX3_sends_6 19 rfl rfl)
theorem dX3_sends_158 : decode cX3_sends 158 = .ok (.getfield 50, 3) := dk_180 0 50 (dk_at dksX3_sends_6 20 rfl rfl)
theorem dX3_sends_161 : decode cX3_sends 161 = .ok (.aaload, 1) := dk_50 (dk_at dksX3_sends_6 23 rfl rfl)
theorem dX3_sends_162 : decode cX3_sends 162 = .ok (.invokevirtual 54, 3) := dk_182 0 54 (dk_at dksX3_sends_7 0 rfl rfl)
theorem dX3_sends_165 : decode cX3_sends 165 = .ok (.aload_n 0, 1) := dk_42 (dk_at dksX3_sends_7 3 rfl rfl)
theorem dX3_sends_166 : decode cX3_sends 166 = .ok (.dup, 1) := dk_89 (dk_at dksX3_sends_7 4 rfl rfl)
theorem dX3_sends_167 : decode cX3_sends 167 = .ok (.getfield 50, 3) := dk_180 0 50 (dk_at dksX3_sends_7 5 rfl rfl)
theorem dX3_sends_170 : decode cX3_sends 170 = .ok (.iconst 1, 1) := dk_4 (dk_at dksX3_sends_7 8 rfl rfl)
theorem dX3_sends_171 : decode cX3_sends 171 = .ok (.iadd, 1) := dk_96 (dk_at dksX3_sends_7 9 rfl rfl)
theorem dX3_sends_172 : decode cX3_sends 172 = .ok (.putfield 50, 3) := dk_181 0 50 (dk_at dksX3_sends_7 10 rfl rfl)
theorem dX3_sends_175 : decode cX3_sends 175 = .ok (.return_, 1) := dk_177 (dk_at dksX3_sends_7 13 rfl rfl)
abbrev cX3_isLost : ByteArray := prog_3_method_7_code
def yX3_isLost : MethodName := ⟨RX3, "isLost", "()V"⟩
def dkwX3_isLost_0 : List UInt8 := [42, 18, 127, 42, 180, 0, 73, 4, 96, 184, 0, 115, 181, 0, 73, 177]
abbrev dktX3_isLost_0 : List UInt8 := dkwX3_isLost_0 ++ []
theorem dksX3_isLost_0 : cX3_isLost.data.toList.drop 0 = dktX3_isLost_0 := by decide +kernel
theorem dX3_isLost_0 : decode cX3_isLost 0 = .ok (.aload_n 0, 1) := dk_42 (dk_at dksX3_isLost_0 0 rfl rfl)
theorem dX3_isLost_1 : decode cX3_isLost 1 = .ok (.ldc 127, 2) := dk_18 127 (dk_at dksX3_isLost_0 1 rfl rfl)
theorem dX3_isLost_3 : decode cX3_isLost 3 = .ok (.aload_n 0, 1) := dk_42 (dk_at dksX3_isLost_0 3 rfl rfl)
theorem dX3_isLost_4 : decode cX3_isLost 4 = .ok (.getfield 73, 3) := dk_180 0 73 (dk_at dksX3_isLost_0 4 rfl rfl)
theorem dX3_isLost_7 : decode cX3_isLost 7 = .ok (.iconst 1, 1) := dk_4 (dk_at dksX3_isLost_0 7 rfl rfl)
theorem dX3_isLost_8 : decode cX3_isLost 8 = .ok (.iadd, 1) := dk_96 (dk_at dksX3_isLost_0 8 rfl rfl)
theorem dX3_isLost_9 : decode cX3_isLost 9 = .ok (.invokestatic 115, 3) := dk_184 0 115 (dk_at dksX3_isLost_0 9 rfl rfl)
theorem dX3_isLost_12 : decode cX3_isLost 12 = .ok (.putfield 73, 3) := dk_181 0 73 (dk_at dksX3_isLost_0 12 rfl rfl)
theorem dX3_isLost_15 : decode cX3_isLost 15 = .ok (.return_, 1) := dk_177 (dk_at dksX3_isLost_0 15 rfl rfl)
abbrev cX3_copies : ByteArray := prog_3_method_3_code
def yX3_copies : MethodName := ⟨RX3, "copies", "([I[I)V"⟩
def dkwX3_copies_0 : List UInt8 := [3, 62, 29, 43, 190, 162, 0, 15, 44, 29, 43, 29, 46, 79, 132, 3, 1, 167, 255, 241, 177]
abbrev dktX3_copies_0 : List UInt8 := dkwX3_copies_0 ++ []
theorem dksX3_copies_0 : cX3_copies.data.toList.drop 0 = dktX3_copies_0 := by decide +kernel
theorem dX3_copies_0 : decode cX3_copies 0 = .ok (.iconst 0, 1) := dk_3 (dk_at dksX3_copies_0 0 rfl rfl)
theorem dX3_copies_1 : decode cX3_copies 1 = .ok (.istore_n 3, 1) := dk_62 (dk_at dksX3_copies_0 1 rfl rfl)
theorem dX3_copies_2 : decode cX3_copies 2 = .ok (.iload_n 3, 1) := dk_29 (dk_at dksX3_copies_0 2 rfl rfl)
theorem dX3_copies_3 : decode cX3_copies 3 = .ok (.aload_n 1, 1) := dk_43 (dk_at dksX3_copies_0 3 rfl rfl)
theorem dX3_copies_4 : decode cX3_copies 4 = .ok (.arraylength, 1) := dk_190 (dk_at dksX3_copies_0 4 rfl rfl)
theorem dX3_copies_5 : decode cX3_copies 5 = .ok (.if_icmp .ge 15, 3) := dk_162 0 15 (dk_at dksX3_copies_0 5 rfl rfl)
theorem dX3_copies_8 : decode cX3_copies 8 = .ok (.aload_n 2, 1) := dk_44 (dk_at dksX3_copies_0 8 rfl rfl)
theorem dX3_copies_9 : decode cX3_copies 9 = .ok (.iload_n 3, 1) := dk_29 (dk_at dksX3_copies_0 9 rfl rfl)
theorem dX3_copies_10 : decode cX3_copies 10 = .ok (.aload_n 1, 1) := dk_43 (dk_at dksX3_copies_0 10 rfl rfl)
theorem dX3_copies_11 : decode cX3_copies 11 = .ok (.iload_n 3, 1) := dk_29 (dk_at dksX3_copies_0 11 rfl rfl)
theorem dX3_copies_12 : decode cX3_copies 12 = .ok (.iaload, 1) := dk_46 (dk_at dksX3_copies_0 12 rfl rfl)
theorem dX3_copies_13 : decode cX3_copies 13 = .ok (.iastore, 1) := dk_79 (dk_at dksX3_copies_0 13 rfl rfl)
theorem dX3_copies_14 : decode cX3_copies 14 = .ok (.iinc 3 1, 3) := dk_132 3 1 (dk_at dksX3_copies_0 14 rfl rfl)
theorem dX3_copies_17 : decode cX3_copies 17 = .ok (.goto (-15), 3) := dk_167 255 241 (dk_at dksX3_copies_0 17 rfl rfl)
theorem dX3_copies_20 : decode cX3_copies 20 = .ok (.return_, 1) := dk_177 (dk_at dksX3_copies_0 20 rfl rfl)
abbrev cX3_holds : ByteArray := prog_3_method_29_code
def yX3_holds : MethodName := ⟨RX3, "holds", "(I)V"⟩
def dkwX3_holds_5 : List UInt8 := [27, 184, 0, 191, 153, 0, 4, 177, 42, 27, 2, 182, 1, 5, 42, 27, 182, 0, 80, 177]
abbrev dktX3_holds_5 : List UInt8 := dkwX3_holds_5 ++ []
def dkwX3_holds_4 : List UInt8 := [180, 0, 221, 27, 44, 182, 0, 173, 79, 42, 27, 182, 0, 234, 42, 27, 182, 0, 237, 177, 44, 182, 0, 188]
abbrev dktX3_holds_4 : List UInt8 := dkwX3_holds_4 ++ dktX3_holds_5
def dkwX3_holds_3 : List UInt8 := [153, 0, 42, 44, 44, 180, 0, 92, 4, 44, 182, 1, 38, 3, 182, 0, 230, 154, 0, 4, 177, 44]
abbrev dktX3_holds_3 : List UInt8 := dkwX3_holds_3 ++ dktX3_holds_4
def dkwX3_holds_2 : List UInt8 := [132, 3, 255, 167, 255, 220, 42, 27, 29, 182, 1, 15, 44, 182, 1, 34, 154, 0, 4, 177, 44, 182, 1, 38]
abbrev dktX3_holds_2 : List UInt8 := dkwX3_holds_2 ++ dktX3_holds_3
def dkwX3_holds_1 : List UInt8 := [182, 0, 166, 44, 180, 0, 92, 160, 0, 16, 44, 42, 27, 29, 182, 1, 31, 182, 0, 214, 154, 0, 9]
abbrev dktX3_holds_1 : List UInt8 := dkwX3_holds_1 ++ dktX3_holds_2
def dkwX3_holds_0 : List UInt8 := [42, 180, 0, 17, 27, 50, 77, 44, 182, 0, 173, 62, 29, 44, 180, 0, 170, 164, 0, 34, 44, 29]
abbrev dktX3_holds_0 : List UInt8 := dkwX3_holds_0 ++ dktX3_holds_1
theorem dksX3_holds_0 : cX3_holds.data.toList.drop 0 = dktX3_holds_0 := by decide +kernel
theorem dksX3_holds_1 : cX3_holds.data.toList.drop 22 = dktX3_holds_1 := dk_seg dksX3_holds_0 22 rfl rfl
theorem dksX3_holds_2 : cX3_holds.data.toList.drop 45 = dktX3_holds_2 := dk_seg dksX3_holds_1 23 rfl rfl
theorem dksX3_holds_3 : cX3_holds.data.toList.drop 69 = dktX3_holds_3 := dk_seg dksX3_holds_2 24 rfl rfl
theorem dksX3_holds_4 : cX3_holds.data.toList.drop 91 = dktX3_holds_4 := dk_seg dksX3_holds_3 22 rfl rfl
theorem dksX3_holds_5 : cX3_holds.data.toList.drop 115 = dktX3_holds_5 := dk_seg dksX3_holds_4 24 rfl rfl
theorem dX3_holds_0 : decode cX3_holds 0 = .ok (.aload_n 0, 1) := dk_42 (dk_at dksX3_holds_0 0 rfl rfl)
theorem dX3_holds_1 : decode cX3_holds 1 = .ok (.getfield 17, 3) := dk_180 0 17 (dk_at dksX3_holds_0 1 rfl rfl)
theorem dX3_holds_4 : decode cX3_holds 4 = .ok (.iload_n 1, 1) := dk_27 (dk_at dksX3_holds_0 4 rfl rfl)
theorem dX3_holds_5 : decode cX3_holds 5 = .ok (.aaload, 1) := dk_50 (dk_at dksX3_holds_0 5 rfl rfl)
theorem dX3_holds_6 : decode cX3_holds 6 = .ok (.astore_n 2, 1) := dk_77 (dk_at dksX3_holds_0 6 rfl rfl)
theorem dX3_holds_7 : decode cX3_holds 7 = .ok (.aload_n 2, 1) := dk_44 (dk_at dksX3_holds_0 7 rfl rfl)
theorem dX3_holds_8 : decode cX3_holds 8 = .ok (.invokevirtual 173, 3) := dk_182 0 173 (dk_at dksX3_holds_0 8 rfl rfl)
theorem dX3_holds_11 : decode cX3_holds 11 = .ok (.istore_n 3, 1) := dk_62 (dk_at dksX3_holds_0 11 rfl rfl)
theorem dX3_holds_12 : decode cX3_holds 12 = .ok (.iload_n 3, 1) := dk_29 (dk_at dksX3_holds_0 12 rfl rfl)
theorem dX3_holds_13 : decode cX3_holds 13 = .ok (.aload_n 2, 1) := dk_44 (dk_at dksX3_holds_0 13 rfl rfl)
theorem dX3_holds_14 : decode cX3_holds 14 = .ok (.getfield 170, 3) := dk_180 0 170 (dk_at dksX3_holds_0 14 rfl rfl)
theorem dX3_holds_17 : decode cX3_holds 17 = .ok (.if_icmp .le 34, 3) := dk_164 0 34 (dk_at dksX3_holds_0 17 rfl rfl)
theorem dX3_holds_20 : decode cX3_holds 20 = .ok (.aload_n 2, 1) := dk_44 (dk_at dksX3_holds_0 20 rfl rfl)
theorem dX3_holds_21 : decode cX3_holds 21 = .ok (.iload_n 3, 1) := dk_29 (dk_at dksX3_holds_0 21 rfl rfl)
theorem dX3_holds_22 : decode cX3_holds 22 = .ok (.invokevirtual 166, 3) := dk_182 0 166 (dk_at dksX3_holds_1 0 rfl rfl)
theorem dX3_holds_25 : decode cX3_holds 25 = .ok (.aload_n 2, 1) := dk_44 (dk_at dksX3_holds_1 3 rfl rfl)
theorem dX3_holds_26 : decode cX3_holds 26 = .ok (.getfield 92, 3) := dk_180 0 92 (dk_at dksX3_holds_1 4 rfl rfl)
theorem dX3_holds_29 : decode cX3_holds 29 = .ok (.if_icmp .ne 16, 3) := dk_160 0 16 (dk_at dksX3_holds_1 7 rfl rfl)
theorem dX3_holds_32 : decode cX3_holds 32 = .ok (.aload_n 2, 1) := dk_44 (dk_at dksX3_holds_1 10 rfl rfl)
theorem dX3_holds_33 : decode cX3_holds 33 = .ok (.aload_n 0, 1) := dk_42 (dk_at dksX3_holds_1 11 rfl rfl)
theorem dX3_holds_34 : decode cX3_holds 34 = .ok (.iload_n 1, 1) := dk_27 (dk_at dksX3_holds_1 12 rfl rfl)
theorem dX3_holds_35 : decode cX3_holds 35 = .ok (.iload_n 3, 1) := dk_29 (dk_at dksX3_holds_1 13 rfl rfl)
theorem dX3_holds_36 : decode cX3_holds 36 = .ok (.invokevirtual 287, 3) := dk_182 1 31 (dk_at dksX3_holds_1 14 rfl rfl)
theorem dX3_holds_39 : decode cX3_holds 39 = .ok (.invokevirtual 214, 3) := dk_182 0 214 (dk_at dksX3_holds_1 17 rfl rfl)
theorem dX3_holds_42 : decode cX3_holds 42 = .ok (.ifCond .ne 9, 3) := dk_154 0 9 (dk_at dksX3_holds_1 20 rfl rfl)
theorem dX3_holds_45 : decode cX3_holds 45 = .ok (.iinc 3 (-1), 3) := dk_132 3 255 (dk_at dksX3_holds_2 0 rfl rfl)
theorem dX3_holds_48 : decode cX3_holds 48 = .ok (.goto (-36), 3) := dk_167 255 220 (dk_at dksX3_holds_2 3 rfl rfl)
theorem dX3_holds_51 : decode cX3_holds 51 = .ok (.aload_n 0, 1) := dk_42 (dk_at dksX3_holds_2 6 rfl rfl)
theorem dX3_holds_52 : decode cX3_holds 52 = .ok (.iload_n 1, 1) := dk_27 (dk_at dksX3_holds_2 7 rfl rfl)
theorem dX3_holds_53 : decode cX3_holds 53 = .ok (.iload_n 3, 1) := dk_29 (dk_at dksX3_holds_2 8 rfl rfl)
theorem dX3_holds_54 : decode cX3_holds 54 = .ok (.invokevirtual 271, 3) := dk_182 1 15 (dk_at dksX3_holds_2 9 rfl rfl)
theorem dX3_holds_57 : decode cX3_holds 57 = .ok (.aload_n 2, 1) := dk_44 (dk_at dksX3_holds_2 12 rfl rfl)
theorem dX3_holds_58 : decode cX3_holds 58 = .ok (.invokevirtual 290, 3) := dk_182 1 34 (dk_at dksX3_holds_2 13 rfl rfl)
theorem dX3_holds_61 : decode cX3_holds 61 = .ok (.ifCond .ne 4, 3) := dk_154 0 4 (dk_at dksX3_holds_2 16 rfl rfl)
theorem dX3_holds_64 : decode cX3_holds 64 = .ok (.return_, 1) := dk_177 (dk_at dksX3_holds_2 19 rfl rfl)
theorem dX3_holds_65 : decode cX3_holds 65 = .ok (.aload_n 2, 1) := dk_44 (dk_at dksX3_holds_2 20 rfl rfl)
theorem dX3_holds_66 : decode cX3_holds 66 = .ok (.invokevirtual 294, 3) := dk_182 1 38 (dk_at dksX3_holds_2 21 rfl rfl)
theorem dX3_holds_69 : decode cX3_holds 69 = .ok (.ifCond .eq 42, 3) := dk_153 0 42 (dk_at dksX3_holds_3 0 rfl rfl)
theorem dX3_holds_72 : decode cX3_holds 72 = .ok (.aload_n 2, 1) := dk_44 (dk_at dksX3_holds_3 3 rfl rfl)
theorem dX3_holds_73 : decode cX3_holds 73 = .ok (.aload_n 2, 1) := dk_44 (dk_at dksX3_holds_3 4 rfl rfl)
theorem dX3_holds_74 : decode cX3_holds 74 = .ok (.getfield 92, 3) := dk_180 0 92 (dk_at dksX3_holds_3 5 rfl rfl)
theorem dX3_holds_77 : decode cX3_holds 77 = .ok (.iconst 1, 1) := dk_4 (dk_at dksX3_holds_3 8 rfl rfl)
theorem dX3_holds_78 : decode cX3_holds 78 = .ok (.aload_n 2, 1) := dk_44 (dk_at dksX3_holds_3 9 rfl rfl)
theorem dX3_holds_79 : decode cX3_holds 79 = .ok (.invokevirtual 294, 3) := dk_182 1 38 (dk_at dksX3_holds_3 10 rfl rfl)
theorem dX3_holds_82 : decode cX3_holds 82 = .ok (.iconst 0, 1) := dk_3 (dk_at dksX3_holds_3 13 rfl rfl)
theorem dX3_holds_83 : decode cX3_holds 83 = .ok (.invokevirtual 230, 3) := dk_182 0 230 (dk_at dksX3_holds_3 14 rfl rfl)
theorem dX3_holds_86 : decode cX3_holds 86 = .ok (.ifCond .ne 4, 3) := dk_154 0 4 (dk_at dksX3_holds_3 17 rfl rfl)
theorem dX3_holds_89 : decode cX3_holds 89 = .ok (.return_, 1) := dk_177 (dk_at dksX3_holds_3 20 rfl rfl)
theorem dX3_holds_90 : decode cX3_holds 90 = .ok (.aload_n 2, 1) := dk_44 (dk_at dksX3_holds_3 21 rfl rfl)
theorem dX3_holds_91 : decode cX3_holds 91 = .ok (.getfield 221, 3) := dk_180 0 221 (dk_at dksX3_holds_4 0 rfl rfl)
theorem dX3_holds_94 : decode cX3_holds 94 = .ok (.iload_n 1, 1) := dk_27 (dk_at dksX3_holds_4 3 rfl rfl)
theorem dX3_holds_95 : decode cX3_holds 95 = .ok (.aload_n 2, 1) := dk_44 (dk_at dksX3_holds_4 4 rfl rfl)
theorem dX3_holds_96 : decode cX3_holds 96 = .ok (.invokevirtual 173, 3) := dk_182 0 173 (dk_at dksX3_holds_4 5 rfl rfl)
theorem dX3_holds_99 : decode cX3_holds 99 = .ok (.iastore, 1) := dk_79 (dk_at dksX3_holds_4 8 rfl rfl)
theorem dX3_holds_100 : decode cX3_holds 100 = .ok (.aload_n 0, 1) := dk_42 (dk_at dksX3_holds_4 9 rfl rfl)
theorem dX3_holds_101 : decode cX3_holds 101 = .ok (.iload_n 1, 1) := dk_27 (dk_at dksX3_holds_4 10 rfl rfl)
theorem dX3_holds_102 : decode cX3_holds 102 = .ok (.invokevirtual 234, 3) := dk_182 0 234 (dk_at dksX3_holds_4 11 rfl rfl)
theorem dX3_holds_105 : decode cX3_holds 105 = .ok (.aload_n 0, 1) := dk_42 (dk_at dksX3_holds_4 14 rfl rfl)
theorem dX3_holds_106 : decode cX3_holds 106 = .ok (.iload_n 1, 1) := dk_27 (dk_at dksX3_holds_4 15 rfl rfl)
theorem dX3_holds_107 : decode cX3_holds 107 = .ok (.invokevirtual 237, 3) := dk_182 0 237 (dk_at dksX3_holds_4 16 rfl rfl)
theorem dX3_holds_110 : decode cX3_holds 110 = .ok (.return_, 1) := dk_177 (dk_at dksX3_holds_4 19 rfl rfl)
theorem dX3_holds_111 : decode cX3_holds 111 = .ok (.aload_n 2, 1) := dk_44 (dk_at dksX3_holds_4 20 rfl rfl)
theorem dX3_holds_112 : decode cX3_holds 112 = .ok (.invokevirtual 188, 3) := dk_182 0 188 (dk_at dksX3_holds_4 21 rfl rfl)
theorem dX3_holds_115 : decode cX3_holds 115 = .ok (.iload_n 1, 1) := dk_27 (dk_at dksX3_holds_5 0 rfl rfl)
theorem dX3_holds_116 : decode cX3_holds 116 = .ok (.invokestatic 191, 3) := dk_184 0 191 (dk_at dksX3_holds_5 1 rfl rfl)
theorem dX3_holds_119 : decode cX3_holds 119 = .ok (.ifCond .eq 4, 3) := dk_153 0 4 (dk_at dksX3_holds_5 4 rfl rfl)
theorem dX3_holds_122 : decode cX3_holds 122 = .ok (.return_, 1) := dk_177 (dk_at dksX3_holds_5 7 rfl rfl)
theorem dX3_holds_123 : decode cX3_holds 123 = .ok (.aload_n 0, 1) := dk_42 (dk_at dksX3_holds_5 8 rfl rfl)
theorem dX3_holds_124 : decode cX3_holds 124 = .ok (.iload_n 1, 1) := dk_27 (dk_at dksX3_holds_5 9 rfl rfl)
theorem dX3_holds_125 : decode cX3_holds 125 = .ok (.iconst (-1), 1) := dk_2 (dk_at dksX3_holds_5 10 rfl rfl)
theorem dX3_holds_126 : decode cX3_holds 126 = .ok (.invokevirtual 261, 3) := dk_182 1 5 (dk_at dksX3_holds_5 11 rfl rfl)
theorem dX3_holds_129 : decode cX3_holds 129 = .ok (.aload_n 0, 1) := dk_42 (dk_at dksX3_holds_5 14 rfl rfl)
theorem dX3_holds_130 : decode cX3_holds 130 = .ok (.iload_n 1, 1) := dk_27 (dk_at dksX3_holds_5 15 rfl rfl)
theorem dX3_holds_131 : decode cX3_holds 131 = .ok (.invokevirtual 80, 3) := dk_182 0 80 (dk_at dksX3_holds_5 16 rfl rfl)
theorem dX3_holds_134 : decode cX3_holds 134 = .ok (.return_, 1) := dk_177 (dk_at dksX3_holds_5 19 rfl rfl)
abbrev cX3_withMatch : ByteArray := prog_3_method_28_code
def yX3_withMatch : MethodName := ⟨RX3, "withMatch", "(II)I"⟩
def dkwX3_withMatch_2 : List UInt8 := [21, 4, 120, 167, 0, 4, 3, 128, 62, 132, 4, 1, 167, 255, 201, 29, 172]
abbrev dktX3_withMatch_2 : List UInt8 := dkwX3_withMatch_2 ++ []
def dkwX3_withMatch_1 : List UInt8 := [50, 182, 0, 173, 167, 0, 15, 42, 180, 0, 17, 27, 50, 180, 0, 221, 21, 4, 46, 28, 161, 0, 10, 4]
abbrev dktX3_withMatch_1 : List UInt8 := dkwX3_withMatch_1 ++ dktX3_withMatch_2
def dkwX3_withMatch_0 : List UInt8 := [3, 62, 3, 54, 4, 21, 4, 16, 7, 162, 0, 54, 29, 21, 4, 27, 160, 0, 15, 42, 180, 0, 17, 27]
abbrev dktX3_withMatch_0 : List UInt8 := dkwX3_withMatch_0 ++ dktX3_withMatch_1
theorem dksX3_withMatch_0 : cX3_withMatch.data.toList.drop 0 = dktX3_withMatch_0 := by decide +kernel
theorem dksX3_withMatch_1 : cX3_withMatch.data.toList.drop 24 = dktX3_withMatch_1 := dk_seg dksX3_withMatch_0 24 rfl rfl
theorem dksX3_withMatch_2 : cX3_withMatch.data.toList.drop 48 = dktX3_withMatch_2 := dk_seg dksX3_withMatch_1 24 rfl rfl
theorem dX3_withMatch_0 : decode cX3_withMatch 0 = .ok (.iconst 0, 1) := dk_3 (dk_at dksX3_withMatch_0 0 rfl rfl)
theorem dX3_withMatch_1 : decode cX3_withMatch 1 = .ok (.istore_n 3, 1) := dk_62 (dk_at dksX3_withMatch_0 1 rfl rfl)
theorem dX3_withMatch_2 : decode cX3_withMatch 2 = .ok (.iconst 0, 1) := dk_3 (dk_at dksX3_withMatch_0 2 rfl rfl)
theorem dX3_withMatch_3 : decode cX3_withMatch 3 = .ok (.istore 4, 2) := dk_54 4 (dk_at dksX3_withMatch_0 3 rfl rfl)
theorem dX3_withMatch_5 : decode cX3_withMatch 5 = .ok (.iload 4, 2) := dk_21 4 (dk_at dksX3_withMatch_0 5 rfl rfl)
theorem dX3_withMatch_7 : decode cX3_withMatch 7 = .ok (.bipush 7, 2) := dk_16 7 (dk_at dksX3_withMatch_0 7 rfl rfl)
theorem dX3_withMatch_9 : decode cX3_withMatch 9 = .ok (.if_icmp .ge 54, 3) := dk_162 0 54 (dk_at dksX3_withMatch_0 9 rfl rfl)
theorem dX3_withMatch_12 : decode cX3_withMatch 12 = .ok (.iload_n 3, 1) := dk_29 (dk_at dksX3_withMatch_0 12 rfl rfl)
theorem dX3_withMatch_13 : decode cX3_withMatch 13 = .ok (.iload 4, 2) := dk_21 4 (dk_at dksX3_withMatch_0 13 rfl rfl)
theorem dX3_withMatch_15 : decode cX3_withMatch 15 = .ok (.iload_n 1, 1) := dk_27 (dk_at dksX3_withMatch_0 15 rfl rfl)
theorem dX3_withMatch_16 : decode cX3_withMatch 16 = .ok (.if_icmp .ne 15, 3) := dk_160 0 15 (dk_at dksX3_withMatch_0 16 rfl rfl)
theorem dX3_withMatch_19 : decode cX3_withMatch 19 = .ok (.aload_n 0, 1) := dk_42 (dk_at dksX3_withMatch_0 19 rfl rfl)
theorem dX3_withMatch_20 : decode cX3_withMatch 20 = .ok (.getfield 17, 3) := dk_180 0 17 (dk_at dksX3_withMatch_0 20 rfl rfl)
theorem dX3_withMatch_23 : decode cX3_withMatch 23 = .ok (.iload_n 1, 1) := dk_27 (dk_at dksX3_withMatch_0 23 rfl rfl)
theorem dX3_withMatch_24 : decode cX3_withMatch 24 = .ok (.aaload, 1) := dk_50 (dk_at dksX3_withMatch_1 0 rfl rfl)
theorem dX3_withMatch_25 : decode cX3_withMatch 25 = .ok (.invokevirtual 173, 3) := dk_182 0 173 (dk_at dksX3_withMatch_1 1 rfl rfl)
theorem dX3_withMatch_28 : decode cX3_withMatch 28 = .ok (.goto 15, 3) := dk_167 0 15 (dk_at dksX3_withMatch_1 4 rfl rfl)
theorem dX3_withMatch_31 : decode cX3_withMatch 31 = .ok (.aload_n 0, 1) := dk_42 (dk_at dksX3_withMatch_1 7 rfl rfl)
theorem dX3_withMatch_32 : decode cX3_withMatch 32 = .ok (.getfield 17, 3) := dk_180 0 17 (dk_at dksX3_withMatch_1 8 rfl rfl)
theorem dX3_withMatch_35 : decode cX3_withMatch 35 = .ok (.iload_n 1, 1) := dk_27 (dk_at dksX3_withMatch_1 11 rfl rfl)
theorem dX3_withMatch_36 : decode cX3_withMatch 36 = .ok (.aaload, 1) := dk_50 (dk_at dksX3_withMatch_1 12 rfl rfl)
theorem dX3_withMatch_37 : decode cX3_withMatch 37 = .ok (.getfield 221, 3) := dk_180 0 221 (dk_at dksX3_withMatch_1 13 rfl rfl)
theorem dX3_withMatch_40 : decode cX3_withMatch 40 = .ok (.iload 4, 2) := dk_21 4 (dk_at dksX3_withMatch_1 16 rfl rfl)
theorem dX3_withMatch_42 : decode cX3_withMatch 42 = .ok (.iaload, 1) := dk_46 (dk_at dksX3_withMatch_1 18 rfl rfl)
theorem dX3_withMatch_43 : decode cX3_withMatch 43 = .ok (.iload_n 2, 1) := dk_28 (dk_at dksX3_withMatch_1 19 rfl rfl)
theorem dX3_withMatch_44 : decode cX3_withMatch 44 = .ok (.if_icmp .lt 10, 3) := dk_161 0 10 (dk_at dksX3_withMatch_1 20 rfl rfl)
theorem dX3_withMatch_47 : decode cX3_withMatch 47 = .ok (.iconst 1, 1) := dk_4 (dk_at dksX3_withMatch_1 23 rfl rfl)
theorem dX3_withMatch_48 : decode cX3_withMatch 48 = .ok (.iload 4, 2) := dk_21 4 (dk_at dksX3_withMatch_2 0 rfl rfl)
theorem dX3_withMatch_50 : decode cX3_withMatch 50 = .ok (.ishl, 1) := dk_120 (dk_at dksX3_withMatch_2 2 rfl rfl)
theorem dX3_withMatch_51 : decode cX3_withMatch 51 = .ok (.goto 4, 3) := dk_167 0 4 (dk_at dksX3_withMatch_2 3 rfl rfl)
theorem dX3_withMatch_54 : decode cX3_withMatch 54 = .ok (.iconst 0, 1) := dk_3 (dk_at dksX3_withMatch_2 6 rfl rfl)
theorem dX3_withMatch_55 : decode cX3_withMatch 55 = .ok (.ior, 1) := dk_128 (dk_at dksX3_withMatch_2 7 rfl rfl)
theorem dX3_withMatch_56 : decode cX3_withMatch 56 = .ok (.istore_n 3, 1) := dk_62 (dk_at dksX3_withMatch_2 8 rfl rfl)
theorem dX3_withMatch_57 : decode cX3_withMatch 57 = .ok (.iinc 4 1, 3) := dk_132 4 1 (dk_at dksX3_withMatch_2 9 rfl rfl)
theorem dX3_withMatch_60 : decode cX3_withMatch 60 = .ok (.goto (-55), 3) := dk_167 255 201 (dk_at dksX3_withMatch_2 12 rfl rfl)
theorem dX3_withMatch_63 : decode cX3_withMatch 63 = .ok (.iload_n 3, 1) := dk_29 (dk_at dksX3_withMatch_2 15 rfl rfl)
theorem dX3_withMatch_64 : decode cX3_withMatch 64 = .ok (.ireturn, 1) := dk_172 (dk_at dksX3_withMatch_2 16 rfl rfl)
abbrev cX3_commits : ByteArray := prog_3_method_20_code
def yX3_commits : MethodName := ⟨RX3, "commits", "(II)V"⟩
def dkwX3_commits_1 : List UInt8 := [181, 0, 170, 42, 45, 45, 180, 0, 170, 182, 0, 247, 167, 255, 229, 177]
abbrev dktX3_commits_1 : List UInt8 := dkwX3_commits_1 ++ []
def dkwX3_commits_0 : List UInt8 := [42, 180, 0, 17, 27, 50, 78, 45, 180, 0, 170, 28, 162, 0, 25, 45, 89, 180, 0, 170, 4, 96]
abbrev dktX3_commits_0 : List UInt8 := dkwX3_commits_0 ++ dktX3_commits_1
theorem dksX3_commits_0 : cX3_commits.data.toList.drop 0 = dktX3_commits_0 := by decide +kernel
theorem dksX3_commits_1 : cX3_commits.data.toList.drop 22 = dktX3_commits_1 := dk_seg dksX3_commits_0 22 rfl rfl
theorem dX3_commits_0 : decode cX3_commits 0 = .ok (.aload_n 0, 1) := dk_42 (dk_at dksX3_commits_0 0 rfl rfl)
theorem dX3_commits_1 : decode cX3_commits 1 = .ok (.getfield 17, 3) := dk_180 0 17 (dk_at dksX3_commits_0 1 rfl rfl)
theorem dX3_commits_4 : decode cX3_commits 4 = .ok (.iload_n 1, 1) := dk_27 (dk_at dksX3_commits_0 4 rfl rfl)
theorem dX3_commits_5 : decode cX3_commits 5 = .ok (.aaload, 1) := dk_50 (dk_at dksX3_commits_0 5 rfl rfl)
theorem dX3_commits_6 : decode cX3_commits 6 = .ok (.astore_n 3, 1) := dk_78 (dk_at dksX3_commits_0 6 rfl rfl)
theorem dX3_commits_7 : decode cX3_commits 7 = .ok (.aload_n 3, 1) := dk_45 (dk_at dksX3_commits_0 7 rfl rfl)
theorem dX3_commits_8 : decode cX3_commits 8 = .ok (.getfield 170, 3) := dk_180 0 170 (dk_at dksX3_commits_0 8 rfl rfl)
theorem dX3_commits_11 : decode cX3_commits 11 = .ok (.iload_n 2, 1) := dk_28 (dk_at dksX3_commits_0 11 rfl rfl)
theorem dX3_commits_12 : decode cX3_commits 12 = .ok (.if_icmp .ge 25, 3) := dk_162 0 25 (dk_at dksX3_commits_0 12 rfl rfl)
theorem dX3_commits_15 : decode cX3_commits 15 = .ok (.aload_n 3, 1) := dk_45 (dk_at dksX3_commits_0 15 rfl rfl)
theorem dX3_commits_16 : decode cX3_commits 16 = .ok (.dup, 1) := dk_89 (dk_at dksX3_commits_0 16 rfl rfl)
theorem dX3_commits_17 : decode cX3_commits 17 = .ok (.getfield 170, 3) := dk_180 0 170 (dk_at dksX3_commits_0 17 rfl rfl)
theorem dX3_commits_20 : decode cX3_commits 20 = .ok (.iconst 1, 1) := dk_4 (dk_at dksX3_commits_0 20 rfl rfl)
theorem dX3_commits_21 : decode cX3_commits 21 = .ok (.iadd, 1) := dk_96 (dk_at dksX3_commits_0 21 rfl rfl)
theorem dX3_commits_22 : decode cX3_commits 22 = .ok (.putfield 170, 3) := dk_181 0 170 (dk_at dksX3_commits_1 0 rfl rfl)
theorem dX3_commits_25 : decode cX3_commits 25 = .ok (.aload_n 0, 1) := dk_42 (dk_at dksX3_commits_1 3 rfl rfl)
theorem dX3_commits_26 : decode cX3_commits 26 = .ok (.aload_n 3, 1) := dk_45 (dk_at dksX3_commits_1 4 rfl rfl)
theorem dX3_commits_27 : decode cX3_commits 27 = .ok (.aload_n 3, 1) := dk_45 (dk_at dksX3_commits_1 5 rfl rfl)
theorem dX3_commits_28 : decode cX3_commits 28 = .ok (.getfield 170, 3) := dk_180 0 170 (dk_at dksX3_commits_1 6 rfl rfl)
theorem dX3_commits_31 : decode cX3_commits 31 = .ok (.invokevirtual 247, 3) := dk_182 0 247 (dk_at dksX3_commits_1 9 rfl rfl)
theorem dX3_commits_34 : decode cX3_commits 34 = .ok (.goto (-27), 3) := dk_167 255 229 (dk_at dksX3_commits_1 12 rfl rfl)
theorem dX3_commits_37 : decode cX3_commits 37 = .ok (.return_, 1) := dk_177 (dk_at dksX3_commits_1 15 rfl rfl)
abbrev cX3_isSeenHeld : ByteArray := prog_3_method_21_code
def yX3_isSeenHeld : MethodName := ⟨RX3, "isSeenHeld", "(LTermLog$Node;I)V"⟩
def dkwX3_isSeenHeld_7 : List UInt8 := [46, 79, 25, 4, 6, 43, 180, 0, 185, 29, 46, 79, 177]
abbrev dktX3_isSeenHeld_7 : List UInt8 := dkwX3_isSeenHeld_7 ++ []
def dkwX3_isSeenHeld_6 : List UInt8 := [180, 0, 176, 29, 46, 79, 25, 4, 4, 43, 180, 0, 179, 29, 46, 79, 25, 4, 5, 43, 180, 0, 182, 29]
abbrev dktX3_isSeenHeld_6 : List UInt8 := dkwX3_isSeenHeld_6 ++ dktX3_isSeenHeld_7
def dkwX3_isSeenHeld_5 : List UInt8 := [181, 0, 70, 177, 42, 28, 181, 0, 58, 42, 89, 180, 0, 254, 4, 96, 181, 0, 254, 25, 4, 3, 43]
abbrev dktX3_isSeenHeld_5 : List UInt8 := dkwX3_isSeenHeld_5 ++ dktX3_isSeenHeld_6
def dkwX3_isSeenHeld_4 : List UInt8 := [160, 0, 20, 25, 4, 6, 46, 43, 180, 0, 185, 29, 46, 160, 0, 7, 3, 167, 0, 4, 4, 96]
abbrev dktX3_isSeenHeld_4 : List UInt8 := dkwX3_isSeenHeld_4 ++ dktX3_isSeenHeld_5
def dkwX3_isSeenHeld_3 : List UInt8 := [25, 4, 4, 46, 43, 180, 0, 179, 29, 46, 160, 0, 33, 25, 4, 5, 46, 43, 180, 0, 182, 29, 46]
abbrev dktX3_isSeenHeld_3 : List UInt8 := dkwX3_isSeenHeld_3 ++ dktX3_isSeenHeld_4
def dkwX3_isSeenHeld_2 : List UInt8 := [180, 0, 58, 163, 0, 70, 42, 89, 180, 0, 70, 25, 4, 3, 46, 43, 180, 0, 176, 29, 46, 160, 0, 46]
abbrev dktX3_isSeenHeld_2 : List UInt8 := dkwX3_isSeenHeld_2 ++ dktX3_isSeenHeld_3
def dkwX3_isSeenHeld_1 : List UInt8 := [180, 0, 182, 29, 46, 43, 180, 0, 185, 29, 46, 79, 42, 180, 0, 26, 28, 50, 58, 4, 28, 42]
abbrev dktX3_isSeenHeld_1 : List UInt8 := dkwX3_isSeenHeld_1 ++ dktX3_isSeenHeld_2
def dkwX3_isSeenHeld_0 : List UInt8 := [28, 43, 180, 0, 148, 100, 4, 100, 62, 43, 180, 0, 179, 29, 46, 154, 0, 20, 43, 180, 0, 251, 43]
abbrev dktX3_isSeenHeld_0 : List UInt8 := dkwX3_isSeenHeld_0 ++ dktX3_isSeenHeld_1
theorem dksX3_isSeenHeld_0 : cX3_isSeenHeld.data.toList.drop 0 = dktX3_isSeenHeld_0 := by decide +kernel
theorem dksX3_isSeenHeld_1 : cX3_isSeenHeld.data.toList.drop 23 = dktX3_isSeenHeld_1 := dk_seg dksX3_isSeenHeld_0 23 rfl rfl
theorem dksX3_isSeenHeld_2 : cX3_isSeenHeld.data.toList.drop 45 = dktX3_isSeenHeld_2 := dk_seg dksX3_isSeenHeld_1 22 rfl rfl
theorem dksX3_isSeenHeld_3 : cX3_isSeenHeld.data.toList.drop 69 = dktX3_isSeenHeld_3 := dk_seg dksX3_isSeenHeld_2 24 rfl rfl
theorem dksX3_isSeenHeld_4 : cX3_isSeenHeld.data.toList.drop 92 = dktX3_isSeenHeld_4 := dk_seg dksX3_isSeenHeld_3 23 rfl rfl
theorem dksX3_isSeenHeld_5 : cX3_isSeenHeld.data.toList.drop 114 = dktX3_isSeenHeld_5 := dk_seg dksX3_isSeenHeld_4 22 rfl rfl
theorem dksX3_isSeenHeld_6 : cX3_isSeenHeld.data.toList.drop 137 = dktX3_isSeenHeld_6 := dk_seg dksX3_isSeenHeld_5 23 rfl rfl
theorem dksX3_isSeenHeld_7 : cX3_isSeenHeld.data.toList.drop 161 = dktX3_isSeenHeld_7 := dk_seg dksX3_isSeenHeld_6 24 rfl rfl
theorem dX3_isSeenHeld_0 : decode cX3_isSeenHeld 0 = .ok (.iload_n 2, 1) := dk_28 (dk_at dksX3_isSeenHeld_0 0 rfl rfl)
theorem dX3_isSeenHeld_1 : decode cX3_isSeenHeld 1 = .ok (.aload_n 1, 1) := dk_43 (dk_at dksX3_isSeenHeld_0 1 rfl rfl)
theorem dX3_isSeenHeld_2 : decode cX3_isSeenHeld 2 = .ok (.getfield 148, 3) := dk_180 0 148 (dk_at dksX3_isSeenHeld_0 2 rfl rfl)
theorem dX3_isSeenHeld_5 : decode cX3_isSeenHeld 5 = .ok (.isub, 1) := dk_100 (dk_at dksX3_isSeenHeld_0 5 rfl rfl)
theorem dX3_isSeenHeld_6 : decode cX3_isSeenHeld 6 = .ok (.iconst 1, 1) := dk_4 (dk_at dksX3_isSeenHeld_0 6 rfl rfl)
theorem dX3_isSeenHeld_7 : decode cX3_isSeenHeld 7 = .ok (.isub, 1) := dk_100 (dk_at dksX3_isSeenHeld_0 7 rfl rfl)
theorem dX3_isSeenHeld_8 : decode cX3_isSeenHeld 8 = .ok (.istore_n 3, 1) := dk_62 (dk_at dksX3_isSeenHeld_0 8 rfl rfl)
theorem dX3_isSeenHeld_9 : decode cX3_isSeenHeld 9 = .ok (.aload_n 1, 1) := dk_43 (dk_at dksX3_isSeenHeld_0 9 rfl rfl)
theorem dX3_isSeenHeld_10 : decode cX3_isSeenHeld 10 = .ok (.getfield 179, 3) := dk_180 0 179 (dk_at dksX3_isSeenHeld_0 10 rfl rfl)
theorem dX3_isSeenHeld_13 : decode cX3_isSeenHeld 13 = .ok (.iload_n 3, 1) := dk_29 (dk_at dksX3_isSeenHeld_0 13 rfl rfl)
theorem dX3_isSeenHeld_14 : decode cX3_isSeenHeld 14 = .ok (.iaload, 1) := dk_46 (dk_at dksX3_isSeenHeld_0 14 rfl rfl)
theorem dX3_isSeenHeld_15 : decode cX3_isSeenHeld 15 = .ok (.ifCond .ne 20, 3) := dk_154 0 20 (dk_at dksX3_isSeenHeld_0 15 rfl rfl)
theorem dX3_isSeenHeld_18 : decode cX3_isSeenHeld 18 = .ok (.aload_n 1, 1) := dk_43 (dk_at dksX3_isSeenHeld_0 18 rfl rfl)
theorem dX3_isSeenHeld_19 : decode cX3_isSeenHeld 19 = .ok (.getfield 251, 3) := dk_180 0 251 (dk_at dksX3_isSeenHeld_0 19 rfl rfl)
theorem dX3_isSeenHeld_22 : decode cX3_isSeenHeld 22 = .ok (.aload_n 1, 1) := dk_43 (dk_at dksX3_isSeenHeld_0 22 rfl rfl)
theorem dX3_isSeenHeld_23 : decode cX3_isSeenHeld 23 = .ok (.getfield 182, 3) := dk_180 0 182 (dk_at dksX3_isSeenHeld_1 0 rfl rfl)
theorem dX3_isSeenHeld_26 : decode cX3_isSeenHeld 26 = .ok (.iload_n 3, 1) := dk_29 (dk_at dksX3_isSeenHeld_1 3 rfl rfl)
theorem dX3_isSeenHeld_27 : decode cX3_isSeenHeld 27 = .ok (.iaload, 1) := dk_46 (dk_at dksX3_isSeenHeld_1 4 rfl rfl)
theorem dX3_isSeenHeld_28 : decode cX3_isSeenHeld 28 = .ok (.aload_n 1, 1) := dk_43 (dk_at dksX3_isSeenHeld_1 5 rfl rfl)
theorem dX3_isSeenHeld_29 : decode cX3_isSeenHeld 29 = .ok (.getfield 185, 3) := dk_180 0 185 (dk_at dksX3_isSeenHeld_1 6 rfl rfl)
theorem dX3_isSeenHeld_32 : decode cX3_isSeenHeld 32 = .ok (.iload_n 3, 1) := dk_29 (dk_at dksX3_isSeenHeld_1 9 rfl rfl)
theorem dX3_isSeenHeld_33 : decode cX3_isSeenHeld 33 = .ok (.iaload, 1) := dk_46 (dk_at dksX3_isSeenHeld_1 10 rfl rfl)
theorem dX3_isSeenHeld_34 : decode cX3_isSeenHeld 34 = .ok (.iastore, 1) := dk_79 (dk_at dksX3_isSeenHeld_1 11 rfl rfl)
theorem dX3_isSeenHeld_35 : decode cX3_isSeenHeld 35 = .ok (.aload_n 0, 1) := dk_42 (dk_at dksX3_isSeenHeld_1 12 rfl rfl)
theorem dX3_isSeenHeld_36 : decode cX3_isSeenHeld 36 = .ok (.getfield 26, 3) := dk_180 0 26 (dk_at dksX3_isSeenHeld_1 13 rfl rfl)
theorem dX3_isSeenHeld_39 : decode cX3_isSeenHeld 39 = .ok (.iload_n 2, 1) := dk_28 (dk_at dksX3_isSeenHeld_1 16 rfl rfl)
theorem dX3_isSeenHeld_40 : decode cX3_isSeenHeld 40 = .ok (.aaload, 1) := dk_50 (dk_at dksX3_isSeenHeld_1 17 rfl rfl)
theorem dX3_isSeenHeld_41 : decode cX3_isSeenHeld 41 = .ok (.astore 4, 2) := dk_58 4 (dk_at dksX3_isSeenHeld_1 18 rfl rfl)
theorem dX3_isSeenHeld_43 : decode cX3_isSeenHeld 43 = .ok (.iload_n 2, 1) := dk_28 (dk_at dksX3_isSeenHeld_1 20 rfl rfl)
theorem dX3_isSeenHeld_44 : decode cX3_isSeenHeld 44 = .ok (.aload_n 0, 1) := dk_42 (dk_at dksX3_isSeenHeld_1 21 rfl rfl)
theorem dX3_isSeenHeld_45 : decode cX3_isSeenHeld 45 = .ok (.getfield 58, 3) := dk_180 0 58 (dk_at dksX3_isSeenHeld_2 0 rfl rfl)
theorem dX3_isSeenHeld_48 : decode cX3_isSeenHeld 48 = .ok (.if_icmp .gt 70, 3) := dk_163 0 70 (dk_at dksX3_isSeenHeld_2 3 rfl rfl)
theorem dX3_isSeenHeld_51 : decode cX3_isSeenHeld 51 = .ok (.aload_n 0, 1) := dk_42 (dk_at dksX3_isSeenHeld_2 6 rfl rfl)
theorem dX3_isSeenHeld_52 : decode cX3_isSeenHeld 52 = .ok (.dup, 1) := dk_89 (dk_at dksX3_isSeenHeld_2 7 rfl rfl)
theorem dX3_isSeenHeld_53 : decode cX3_isSeenHeld 53 = .ok (.getfield 70, 3) := dk_180 0 70 (dk_at dksX3_isSeenHeld_2 8 rfl rfl)
theorem dX3_isSeenHeld_56 : decode cX3_isSeenHeld 56 = .ok (.aload 4, 2) := dk_25 4 (dk_at dksX3_isSeenHeld_2 11 rfl rfl)
theorem dX3_isSeenHeld_58 : decode cX3_isSeenHeld 58 = .ok (.iconst 0, 1) := dk_3 (dk_at dksX3_isSeenHeld_2 13 rfl rfl)
theorem dX3_isSeenHeld_59 : decode cX3_isSeenHeld 59 = .ok (.iaload, 1) := dk_46 (dk_at dksX3_isSeenHeld_2 14 rfl rfl)
theorem dX3_isSeenHeld_60 : decode cX3_isSeenHeld 60 = .ok (.aload_n 1, 1) := dk_43 (dk_at dksX3_isSeenHeld_2 15 rfl rfl)
theorem dX3_isSeenHeld_61 : decode cX3_isSeenHeld 61 = .ok (.getfield 176, 3) := dk_180 0 176 (dk_at dksX3_isSeenHeld_2 16 rfl rfl)
theorem dX3_isSeenHeld_64 : decode cX3_isSeenHeld 64 = .ok (.iload_n 3, 1) := dk_29 (dk_at dksX3_isSeenHeld_2 19 rfl rfl)
theorem dX3_isSeenHeld_65 : decode cX3_isSeenHeld 65 = .ok (.iaload, 1) := dk_46 (dk_at dksX3_isSeenHeld_2 20 rfl rfl)
theorem dX3_isSeenHeld_66 : decode cX3_isSeenHeld 66 = .ok (.if_icmp .ne 46, 3) := dk_160 0 46 (dk_at dksX3_isSeenHeld_2 21 rfl rfl)
theorem dX3_isSeenHeld_69 : decode cX3_isSeenHeld 69 = .ok (.aload 4, 2) := dk_25 4 (dk_at dksX3_isSeenHeld_3 0 rfl rfl)
theorem dX3_isSeenHeld_71 : decode cX3_isSeenHeld 71 = .ok (.iconst 1, 1) := dk_4 (dk_at dksX3_isSeenHeld_3 2 rfl rfl)
theorem dX3_isSeenHeld_72 : decode cX3_isSeenHeld 72 = .ok (.iaload, 1) := dk_46 (dk_at dksX3_isSeenHeld_3 3 rfl rfl)
theorem dX3_isSeenHeld_73 : decode cX3_isSeenHeld 73 = .ok (.aload_n 1, 1) := dk_43 (dk_at dksX3_isSeenHeld_3 4 rfl rfl)
theorem dX3_isSeenHeld_74 : decode cX3_isSeenHeld 74 = .ok (.getfield 179, 3) := dk_180 0 179 (dk_at dksX3_isSeenHeld_3 5 rfl rfl)
theorem dX3_isSeenHeld_77 : decode cX3_isSeenHeld 77 = .ok (.iload_n 3, 1) := dk_29 (dk_at dksX3_isSeenHeld_3 8 rfl rfl)
theorem dX3_isSeenHeld_78 : decode cX3_isSeenHeld 78 = .ok (.iaload, 1) := dk_46 (dk_at dksX3_isSeenHeld_3 9 rfl rfl)
theorem dX3_isSeenHeld_79 : decode cX3_isSeenHeld 79 = .ok (.if_icmp .ne 33, 3) := dk_160 0 33 (dk_at dksX3_isSeenHeld_3 10 rfl rfl)
theorem dX3_isSeenHeld_82 : decode cX3_isSeenHeld 82 = .ok (.aload 4, 2) := dk_25 4 (dk_at dksX3_isSeenHeld_3 13 rfl rfl)
theorem dX3_isSeenHeld_84 : decode cX3_isSeenHeld 84 = .ok (.iconst 2, 1) := dk_5 (dk_at dksX3_isSeenHeld_3 15 rfl rfl)
theorem dX3_isSeenHeld_85 : decode cX3_isSeenHeld 85 = .ok (.iaload, 1) := dk_46 (dk_at dksX3_isSeenHeld_3 16 rfl rfl)
theorem dX3_isSeenHeld_86 : decode cX3_isSeenHeld 86 = .ok (.aload_n 1, 1) := dk_43 (dk_at dksX3_isSeenHeld_3 17 rfl rfl)
theorem dX3_isSeenHeld_87 : decode cX3_isSeenHeld 87 = .ok (.getfield 182, 3) := dk_180 0 182 (dk_at dksX3_isSeenHeld_3 18 rfl rfl)
theorem dX3_isSeenHeld_90 : decode cX3_isSeenHeld 90 = .ok (.iload_n 3, 1) := dk_29 (dk_at dksX3_isSeenHeld_3 21 rfl rfl)
theorem dX3_isSeenHeld_91 : decode cX3_isSeenHeld 91 = .ok (.iaload, 1) := dk_46 (dk_at dksX3_isSeenHeld_3 22 rfl rfl)
theorem dX3_isSeenHeld_92 : decode cX3_isSeenHeld 92 = .ok (.if_icmp .ne 20, 3) := dk_160 0 20 (dk_at dksX3_isSeenHeld_4 0 rfl rfl)
theorem dX3_isSeenHeld_95 : decode cX3_isSeenHeld 95 = .ok (.aload 4, 2) := dk_25 4 (dk_at dksX3_isSeenHeld_4 3 rfl rfl)
theorem dX3_isSeenHeld_97 : decode cX3_isSeenHeld 97 = .ok (.iconst 3, 1) := dk_6 (dk_at dksX3_isSeenHeld_4 5 rfl rfl)
theorem dX3_isSeenHeld_98 : decode cX3_isSeenHeld 98 = .ok (.iaload, 1) := dk_46 (dk_at dksX3_isSeenHeld_4 6 rfl rfl)
theorem dX3_isSeenHeld_99 : decode cX3_isSeenHeld 99 = .ok (.aload_n 1, 1) := dk_43 (dk_at dksX3_isSeenHeld_4 7 rfl rfl)
theorem dX3_isSeenHeld_100 : decode cX3_isSeenHeld 100 = .ok (.getfield 185, 3) := dk_180 0 185 (dk_at dksX3_isSeenHeld_4 8 rfl rfl)
theorem dX3_isSeenHeld_103 : decode cX3_isSeenHeld 103 = .ok (.iload_n 3, 1) := dk_29 (dk_at dksX3_isSeenHeld_4 11 rfl rfl)
theorem dX3_isSeenHeld_104 : decode cX3_isSeenHeld 104 = .ok (.iaload, 1) := dk_46 (dk_at dksX3_isSeenHeld_4 12 rfl rfl)
theorem dX3_isSeenHeld_105 : decode cX3_isSeenHeld 105 = .ok (.if_icmp .ne 7, 3) := dk_160 0 7 (dk_at dksX3_isSeenHeld_4 13 rfl rfl)
theorem dX3_isSeenHeld_108 : decode cX3_isSeenHeld 108 = .ok (.iconst 0, 1) := dk_3 (dk_at dksX3_isSeenHeld_4 16 rfl rfl)
theorem dX3_isSeenHeld_109 : decode cX3_isSeenHeld 109 = .ok (.goto 4, 3) := dk_167 0 4 (dk_at dksX3_isSeenHeld_4 17 rfl rfl)
theorem dX3_isSeenHeld_112 : decode cX3_isSeenHeld 112 = .ok (.iconst 1, 1) := dk_4 (dk_at dksX3_isSeenHeld_4 20 rfl rfl)
theorem dX3_isSeenHeld_113 : decode cX3_isSeenHeld 113 = .ok (.iadd, 1) := dk_96 (dk_at dksX3_isSeenHeld_4 21 rfl rfl)
theorem dX3_isSeenHeld_114 : decode cX3_isSeenHeld 114 = .ok (.putfield 70, 3) := dk_181 0 70 (dk_at dksX3_isSeenHeld_5 0 rfl rfl)
theorem dX3_isSeenHeld_117 : decode cX3_isSeenHeld 117 = .ok (.return_, 1) := dk_177 (dk_at dksX3_isSeenHeld_5 3 rfl rfl)
theorem dX3_isSeenHeld_118 : decode cX3_isSeenHeld 118 = .ok (.aload_n 0, 1) := dk_42 (dk_at dksX3_isSeenHeld_5 4 rfl rfl)
theorem dX3_isSeenHeld_119 : decode cX3_isSeenHeld 119 = .ok (.iload_n 2, 1) := dk_28 (dk_at dksX3_isSeenHeld_5 5 rfl rfl)
theorem dX3_isSeenHeld_120 : decode cX3_isSeenHeld 120 = .ok (.putfield 58, 3) := dk_181 0 58 (dk_at dksX3_isSeenHeld_5 6 rfl rfl)
theorem dX3_isSeenHeld_123 : decode cX3_isSeenHeld 123 = .ok (.aload_n 0, 1) := dk_42 (dk_at dksX3_isSeenHeld_5 9 rfl rfl)
theorem dX3_isSeenHeld_124 : decode cX3_isSeenHeld 124 = .ok (.dup, 1) := dk_89 (dk_at dksX3_isSeenHeld_5 10 rfl rfl)
theorem dX3_isSeenHeld_125 : decode cX3_isSeenHeld 125 = .ok (.getfield 254, 3) := dk_180 0 254 (dk_at dksX3_isSeenHeld_5 11 rfl rfl)
theorem dX3_isSeenHeld_128 : decode cX3_isSeenHeld 128 = .ok (.iconst 1, 1) := dk_4 (dk_at dksX3_isSeenHeld_5 14 rfl rfl)
theorem dX3_isSeenHeld_129 : decode cX3_isSeenHeld 129 = .ok (.iadd, 1) := dk_96 (dk_at dksX3_isSeenHeld_5 15 rfl rfl)
theorem dX3_isSeenHeld_130 : decode cX3_isSeenHeld 130 = .ok (.putfield 254, 3) := dk_181 0 254 (dk_at dksX3_isSeenHeld_5 16 rfl rfl)
theorem dX3_isSeenHeld_133 : decode cX3_isSeenHeld 133 = .ok (.aload 4, 2) := dk_25 4 (dk_at dksX3_isSeenHeld_5 19 rfl rfl)
theorem dX3_isSeenHeld_135 : decode cX3_isSeenHeld 135 = .ok (.iconst 0, 1) := dk_3 (dk_at dksX3_isSeenHeld_5 21 rfl rfl)
theorem dX3_isSeenHeld_136 : decode cX3_isSeenHeld 136 = .ok (.aload_n 1, 1) := dk_43 (dk_at dksX3_isSeenHeld_5 22 rfl rfl)
theorem dX3_isSeenHeld_137 : decode cX3_isSeenHeld 137 = .ok (.getfield 176, 3) := dk_180 0 176 (dk_at dksX3_isSeenHeld_6 0 rfl rfl)
theorem dX3_isSeenHeld_140 : decode cX3_isSeenHeld 140 = .ok (.iload_n 3, 1) := dk_29 (dk_at dksX3_isSeenHeld_6 3 rfl rfl)
theorem dX3_isSeenHeld_141 : decode cX3_isSeenHeld 141 = .ok (.iaload, 1) := dk_46 (dk_at dksX3_isSeenHeld_6 4 rfl rfl)
theorem dX3_isSeenHeld_142 : decode cX3_isSeenHeld 142 = .ok (.iastore, 1) := dk_79 (dk_at dksX3_isSeenHeld_6 5 rfl rfl)
theorem dX3_isSeenHeld_143 : decode cX3_isSeenHeld 143 = .ok (.aload 4, 2) := dk_25 4 (dk_at dksX3_isSeenHeld_6 6 rfl rfl)
theorem dX3_isSeenHeld_145 : decode cX3_isSeenHeld 145 = .ok (.iconst 1, 1) := dk_4 (dk_at dksX3_isSeenHeld_6 8 rfl rfl)
theorem dX3_isSeenHeld_146 : decode cX3_isSeenHeld 146 = .ok (.aload_n 1, 1) := dk_43 (dk_at dksX3_isSeenHeld_6 9 rfl rfl)
theorem dX3_isSeenHeld_147 : decode cX3_isSeenHeld 147 = .ok (.getfield 179, 3) := dk_180 0 179 (dk_at dksX3_isSeenHeld_6 10 rfl rfl)
theorem dX3_isSeenHeld_150 : decode cX3_isSeenHeld 150 = .ok (.iload_n 3, 1) := dk_29 (dk_at dksX3_isSeenHeld_6 13 rfl rfl)
theorem dX3_isSeenHeld_151 : decode cX3_isSeenHeld 151 = .ok (.iaload, 1) := dk_46 (dk_at dksX3_isSeenHeld_6 14 rfl rfl)
theorem dX3_isSeenHeld_152 : decode cX3_isSeenHeld 152 = .ok (.iastore, 1) := dk_79 (dk_at dksX3_isSeenHeld_6 15 rfl rfl)
theorem dX3_isSeenHeld_153 : decode cX3_isSeenHeld 153 = .ok (.aload 4, 2) := dk_25 4 (dk_at dksX3_isSeenHeld_6 16 rfl rfl)
theorem dX3_isSeenHeld_155 : decode cX3_isSeenHeld 155 = .ok (.iconst 2, 1) := dk_5 (dk_at dksX3_isSeenHeld_6 18 rfl rfl)
theorem dX3_isSeenHeld_156 : decode cX3_isSeenHeld 156 = .ok (.aload_n 1, 1) := dk_43 (dk_at dksX3_isSeenHeld_6 19 rfl rfl)
theorem dX3_isSeenHeld_157 : decode cX3_isSeenHeld 157 = .ok (.getfield 182, 3) := dk_180 0 182 (dk_at dksX3_isSeenHeld_6 20 rfl rfl)
theorem dX3_isSeenHeld_160 : decode cX3_isSeenHeld 160 = .ok (.iload_n 3, 1) := dk_29 (dk_at dksX3_isSeenHeld_6 23 rfl rfl)
theorem dX3_isSeenHeld_161 : decode cX3_isSeenHeld 161 = .ok (.iaload, 1) := dk_46 (dk_at dksX3_isSeenHeld_7 0 rfl rfl)
theorem dX3_isSeenHeld_162 : decode cX3_isSeenHeld 162 = .ok (.iastore, 1) := dk_79 (dk_at dksX3_isSeenHeld_7 1 rfl rfl)
theorem dX3_isSeenHeld_163 : decode cX3_isSeenHeld 163 = .ok (.aload 4, 2) := dk_25 4 (dk_at dksX3_isSeenHeld_7 2 rfl rfl)
theorem dX3_isSeenHeld_165 : decode cX3_isSeenHeld 165 = .ok (.iconst 3, 1) := dk_6 (dk_at dksX3_isSeenHeld_7 4 rfl rfl)
theorem dX3_isSeenHeld_166 : decode cX3_isSeenHeld 166 = .ok (.aload_n 1, 1) := dk_43 (dk_at dksX3_isSeenHeld_7 5 rfl rfl)
theorem dX3_isSeenHeld_167 : decode cX3_isSeenHeld 167 = .ok (.getfield 185, 3) := dk_180 0 185 (dk_at dksX3_isSeenHeld_7 6 rfl rfl)
theorem dX3_isSeenHeld_170 : decode cX3_isSeenHeld 170 = .ok (.iload_n 3, 1) := dk_29 (dk_at dksX3_isSeenHeld_7 9 rfl rfl)
theorem dX3_isSeenHeld_171 : decode cX3_isSeenHeld 171 = .ok (.iaload, 1) := dk_46 (dk_at dksX3_isSeenHeld_7 10 rfl rfl)
theorem dX3_isSeenHeld_172 : decode cX3_isSeenHeld 172 = .ok (.iastore, 1) := dk_79 (dk_at dksX3_isSeenHeld_7 11 rfl rfl)
theorem dX3_isSeenHeld_173 : decode cX3_isSeenHeld 173 = .ok (.return_, 1) := dk_177 (dk_at dksX3_isSeenHeld_7 12 rfl rfl)
abbrev cX3_follows : ByteArray := prog_3_method_15_code
def yX3_follows : MethodName := ⟨RX3, "follows", "(II)V"⟩
def dkwX3_follows_1 : List UInt8 := [181, 0, 199, 45, 28, 181, 0, 205, 177]
abbrev dktX3_follows_1 : List UInt8 := dkwX3_follows_1 ++ []
def dkwX3_follows_0 : List UInt8 := [42, 180, 0, 17, 27, 50, 78, 45, 180, 0, 199, 5, 160, 0, 8, 42, 27, 182, 0, 202, 45, 3]
abbrev dktX3_follows_0 : List UInt8 := dkwX3_follows_0 ++ dktX3_follows_1
theorem dksX3_follows_0 : cX3_follows.data.toList.drop 0 = dktX3_follows_0 := by decide +kernel
theorem dksX3_follows_1 : cX3_follows.data.toList.drop 22 = dktX3_follows_1 := dk_seg dksX3_follows_0 22 rfl rfl
theorem dX3_follows_0 : decode cX3_follows 0 = .ok (.aload_n 0, 1) := dk_42 (dk_at dksX3_follows_0 0 rfl rfl)
theorem dX3_follows_1 : decode cX3_follows 1 = .ok (.getfield 17, 3) := dk_180 0 17 (dk_at dksX3_follows_0 1 rfl rfl)
theorem dX3_follows_4 : decode cX3_follows 4 = .ok (.iload_n 1, 1) := dk_27 (dk_at dksX3_follows_0 4 rfl rfl)
theorem dX3_follows_5 : decode cX3_follows 5 = .ok (.aaload, 1) := dk_50 (dk_at dksX3_follows_0 5 rfl rfl)
theorem dX3_follows_6 : decode cX3_follows 6 = .ok (.astore_n 3, 1) := dk_78 (dk_at dksX3_follows_0 6 rfl rfl)
theorem dX3_follows_7 : decode cX3_follows 7 = .ok (.aload_n 3, 1) := dk_45 (dk_at dksX3_follows_0 7 rfl rfl)
theorem dX3_follows_8 : decode cX3_follows 8 = .ok (.getfield 199, 3) := dk_180 0 199 (dk_at dksX3_follows_0 8 rfl rfl)
theorem dX3_follows_11 : decode cX3_follows 11 = .ok (.iconst 2, 1) := dk_5 (dk_at dksX3_follows_0 11 rfl rfl)
theorem dX3_follows_12 : decode cX3_follows 12 = .ok (.if_icmp .ne 8, 3) := dk_160 0 8 (dk_at dksX3_follows_0 12 rfl rfl)
theorem dX3_follows_15 : decode cX3_follows 15 = .ok (.aload_n 0, 1) := dk_42 (dk_at dksX3_follows_0 15 rfl rfl)
theorem dX3_follows_16 : decode cX3_follows 16 = .ok (.iload_n 1, 1) := dk_27 (dk_at dksX3_follows_0 16 rfl rfl)
theorem dX3_follows_17 : decode cX3_follows 17 = .ok (.invokevirtual 202, 3) := dk_182 0 202 (dk_at dksX3_follows_0 17 rfl rfl)
theorem dX3_follows_20 : decode cX3_follows 20 = .ok (.aload_n 3, 1) := dk_45 (dk_at dksX3_follows_0 20 rfl rfl)
theorem dX3_follows_21 : decode cX3_follows 21 = .ok (.iconst 0, 1) := dk_3 (dk_at dksX3_follows_0 21 rfl rfl)
theorem dX3_follows_22 : decode cX3_follows 22 = .ok (.putfield 199, 3) := dk_181 0 199 (dk_at dksX3_follows_1 0 rfl rfl)
theorem dX3_follows_25 : decode cX3_follows 25 = .ok (.aload_n 3, 1) := dk_45 (dk_at dksX3_follows_1 3 rfl rfl)
theorem dX3_follows_26 : decode cX3_follows 26 = .ok (.iload_n 2, 1) := dk_28 (dk_at dksX3_follows_1 4 rfl rfl)
theorem dX3_follows_27 : decode cX3_follows 27 = .ok (.putfield 205, 3) := dk_181 0 205 (dk_at dksX3_follows_1 5 rfl rfl)
theorem dX3_follows_30 : decode cX3_follows 30 = .ok (.return_, 1) := dk_177 (dk_at dksX3_follows_1 8 rfl rfl)
abbrev cX3_answersReads : ByteArray := prog_3_method_31_code
def yX3_answersReads : MethodName := ⟨RX3, "answersReads", "(I)V"⟩
def dkwX3_answersReads_4 : List UInt8 := [167, 0, 4, 3, 96, 181, 0, 70, 132, 3, 1, 167, 255, 160, 177]
abbrev dktX3_answersReads_4 : List UInt8 := dkwX3_answersReads_4 ++ []
def dkwX3_answersReads_3 : List UInt8 := [25, 4, 4, 46, 46, 79, 42, 89, 180, 0, 70, 44, 180, 0, 170, 25, 4, 6, 46, 162, 0, 7, 4]
abbrev dktX3_answersReads_3 : List UInt8 := dkwX3_answersReads_3 ++ dktX3_answersReads_4
def dkwX3_answersReads_2 : List UInt8 := [182, 1, 41, 182, 0, 214, 154, 0, 6, 167, 0, 46, 25, 4, 7, 4, 79, 25, 4, 8, 44, 180, 0, 251]
abbrev dktX3_answersReads_2 : List UInt8 := dkwX3_answersReads_2 ++ dktX3_answersReads_3
def dkwX3_answersReads_1 : List UInt8 := [58, 4, 25, 4, 3, 46, 27, 160, 0, 72, 25, 4, 7, 46, 154, 0, 65, 44, 42, 27, 25, 4, 5, 46]
abbrev dktX3_answersReads_1 : List UInt8 := dkwX3_answersReads_1 ++ dktX3_answersReads_2
def dkwX3_answersReads_0 : List UInt8 := [42, 180, 0, 17, 27, 50, 77, 3, 62, 29, 42, 180, 0, 61, 162, 0, 94, 42, 180, 0, 29, 29, 50]
abbrev dktX3_answersReads_0 : List UInt8 := dkwX3_answersReads_0 ++ dktX3_answersReads_1
theorem dksX3_answersReads_0 : cX3_answersReads.data.toList.drop 0 = dktX3_answersReads_0 := by decide +kernel
theorem dksX3_answersReads_1 : cX3_answersReads.data.toList.drop 23 = dktX3_answersReads_1 := dk_seg dksX3_answersReads_0 23 rfl rfl
theorem dksX3_answersReads_2 : cX3_answersReads.data.toList.drop 47 = dktX3_answersReads_2 := dk_seg dksX3_answersReads_1 24 rfl rfl
theorem dksX3_answersReads_3 : cX3_answersReads.data.toList.drop 71 = dktX3_answersReads_3 := dk_seg dksX3_answersReads_2 24 rfl rfl
theorem dksX3_answersReads_4 : cX3_answersReads.data.toList.drop 94 = dktX3_answersReads_4 := dk_seg dksX3_answersReads_3 23 rfl rfl
theorem dX3_answersReads_0 : decode cX3_answersReads 0 = .ok (.aload_n 0, 1) := dk_42 (dk_at dksX3_answersReads_0 0 rfl rfl)
theorem dX3_answersReads_1 : decode cX3_answersReads 1 = .ok (.getfield 17, 3) := dk_180 0 17 (dk_at dksX3_answersReads_0 1 rfl rfl)
theorem dX3_answersReads_4 : decode cX3_answersReads 4 = .ok (.iload_n 1, 1) := dk_27 (dk_at dksX3_answersReads_0 4 rfl rfl)
theorem dX3_answersReads_5 : decode cX3_answersReads 5 = .ok (.aaload, 1) := dk_50 (dk_at dksX3_answersReads_0 5 rfl rfl)
theorem dX3_answersReads_6 : decode cX3_answersReads 6 = .ok (.astore_n 2, 1) := dk_77 (dk_at dksX3_answersReads_0 6 rfl rfl)
theorem dX3_answersReads_7 : decode cX3_answersReads 7 = .ok (.iconst 0, 1) := dk_3 (dk_at dksX3_answersReads_0 7 rfl rfl)
theorem dX3_answersReads_8 : decode cX3_answersReads 8 = .ok (.istore_n 3, 1) := dk_62 (dk_at dksX3_answersReads_0 8 rfl rfl)
theorem dX3_answersReads_9 : decode cX3_answersReads 9 = .ok (.iload_n 3, 1) := dk_29 (dk_at dksX3_answersReads_0 9 rfl rfl)
theorem dX3_answersReads_10 : decode cX3_answersReads 10 = .ok (.aload_n 0, 1) := dk_42 (dk_at dksX3_answersReads_0 10 rfl rfl)
theorem dX3_answersReads_11 : decode cX3_answersReads 11 = .ok (.getfield 61, 3) := dk_180 0 61 (dk_at dksX3_answersReads_0 11 rfl rfl)
theorem dX3_answersReads_14 : decode cX3_answersReads 14 = .ok (.if_icmp .ge 94, 3) := dk_162 0 94 (dk_at dksX3_answersReads_0 14 rfl rfl)
theorem dX3_answersReads_17 : decode cX3_answersReads 17 = .ok (.aload_n 0, 1) := dk_42 (dk_at dksX3_answersReads_0 17 rfl rfl)
theorem dX3_answersReads_18 : decode cX3_answersReads 18 = .ok (.getfield 29, 3) := dk_180 0 29 (dk_at dksX3_answersReads_0 18 rfl rfl)
theorem dX3_answersReads_21 : decode cX3_answersReads 21 = .ok (.iload_n 3, 1) := dk_29 (dk_at dksX3_answersReads_0 21 rfl rfl)
theorem dX3_answersReads_22 : decode cX3_answersReads 22 = .ok (.aaload, 1) := dk_50 (dk_at dksX3_answersReads_0 22 rfl rfl)
theorem dX3_answersReads_23 : decode cX3_answersReads 23 = .ok (.astore 4, 2) := dk_58 4 (dk_at dksX3_answersReads_1 0 rfl rfl)
theorem dX3_answersReads_25 : decode cX3_answersReads 25 = .ok (.aload 4, 2) := dk_25 4 (dk_at dksX3_answersReads_1 2 rfl rfl)
theorem dX3_answersReads_27 : decode cX3_answersReads 27 = .ok (.iconst 0, 1) := dk_3 (dk_at dksX3_answersReads_1 4 rfl rfl)
theorem dX3_answersReads_28 : decode cX3_answersReads 28 = .ok (.iaload, 1) := dk_46 (dk_at dksX3_answersReads_1 5 rfl rfl)
theorem dX3_answersReads_29 : decode cX3_answersReads 29 = .ok (.iload_n 1, 1) := dk_27 (dk_at dksX3_answersReads_1 6 rfl rfl)
theorem dX3_answersReads_30 : decode cX3_answersReads 30 = .ok (.if_icmp .ne 72, 3) := dk_160 0 72 (dk_at dksX3_answersReads_1 7 rfl rfl)
theorem dX3_answersReads_33 : decode cX3_answersReads 33 = .ok (.aload 4, 2) := dk_25 4 (dk_at dksX3_answersReads_1 10 rfl rfl)
theorem dX3_answersReads_35 : decode cX3_answersReads 35 = .ok (.iconst 4, 1) := dk_7 (dk_at dksX3_answersReads_1 12 rfl rfl)
theorem dX3_answersReads_36 : decode cX3_answersReads 36 = .ok (.iaload, 1) := dk_46 (dk_at dksX3_answersReads_1 13 rfl rfl)
theorem dX3_answersReads_37 : decode cX3_answersReads 37 = .ok (.ifCond .ne 65, 3) := dk_154 0 65 (dk_at dksX3_answersReads_1 14 rfl rfl)
theorem dX3_answersReads_40 : decode cX3_answersReads 40 = .ok (.aload_n 2, 1) := dk_44 (dk_at dksX3_answersReads_1 17 rfl rfl)
theorem dX3_answersReads_41 : decode cX3_answersReads 41 = .ok (.aload_n 0, 1) := dk_42 (dk_at dksX3_answersReads_1 18 rfl rfl)
theorem dX3_answersReads_42 : decode cX3_answersReads 42 = .ok (.iload_n 1, 1) := dk_27 (dk_at dksX3_answersReads_1 19 rfl rfl)
theorem dX3_answersReads_43 : decode cX3_answersReads 43 = .ok (.aload 4, 2) := dk_25 4 (dk_at dksX3_answersReads_1 20 rfl rfl)
theorem dX3_answersReads_45 : decode cX3_answersReads 45 = .ok (.iconst 2, 1) := dk_5 (dk_at dksX3_answersReads_1 22 rfl rfl)
theorem dX3_answersReads_46 : decode cX3_answersReads 46 = .ok (.iaload, 1) := dk_46 (dk_at dksX3_answersReads_1 23 rfl rfl)
theorem dX3_answersReads_47 : decode cX3_answersReads 47 = .ok (.invokevirtual 297, 3) := dk_182 1 41 (dk_at dksX3_answersReads_2 0 rfl rfl)
theorem dX3_answersReads_50 : decode cX3_answersReads 50 = .ok (.invokevirtual 214, 3) := dk_182 0 214 (dk_at dksX3_answersReads_2 3 rfl rfl)
theorem dX3_answersReads_53 : decode cX3_answersReads 53 = .ok (.ifCond .ne 6, 3) := dk_154 0 6 (dk_at dksX3_answersReads_2 6 rfl rfl)
theorem dX3_answersReads_56 : decode cX3_answersReads 56 = .ok (.goto 46, 3) := dk_167 0 46 (dk_at dksX3_answersReads_2 9 rfl rfl)
theorem dX3_answersReads_59 : decode cX3_answersReads 59 = .ok (.aload 4, 2) := dk_25 4 (dk_at dksX3_answersReads_2 12 rfl rfl)
theorem dX3_answersReads_61 : decode cX3_answersReads 61 = .ok (.iconst 4, 1) := dk_7 (dk_at dksX3_answersReads_2 14 rfl rfl)
theorem dX3_answersReads_62 : decode cX3_answersReads 62 = .ok (.iconst 1, 1) := dk_4 (dk_at dksX3_answersReads_2 15 rfl rfl)
theorem dX3_answersReads_63 : decode cX3_answersReads 63 = .ok (.iastore, 1) := dk_79 (dk_at dksX3_answersReads_2 16 rfl rfl)
theorem dX3_answersReads_64 : decode cX3_answersReads 64 = .ok (.aload 4, 2) := dk_25 4 (dk_at dksX3_answersReads_2 17 rfl rfl)
theorem dX3_answersReads_66 : decode cX3_answersReads 66 = .ok (.iconst 5, 1) := dk_8 (dk_at dksX3_answersReads_2 19 rfl rfl)
theorem dX3_answersReads_67 : decode cX3_answersReads 67 = .ok (.aload_n 2, 1) := dk_44 (dk_at dksX3_answersReads_2 20 rfl rfl)
theorem dX3_answersReads_68 : decode cX3_answersReads 68 = .ok (.getfield 251, 3) := dk_180 0 251 (dk_at dksX3_answersReads_2 21 rfl rfl)
theorem dX3_answersReads_71 : decode cX3_answersReads 71 = .ok (.aload 4, 2) := dk_25 4 (dk_at dksX3_answersReads_3 0 rfl rfl)
theorem dX3_answersReads_73 : decode cX3_answersReads 73 = .ok (.iconst 1, 1) := dk_4 (dk_at dksX3_answersReads_3 2 rfl rfl)
theorem dX3_answersReads_74 : decode cX3_answersReads 74 = .ok (.iaload, 1) := dk_46 (dk_at dksX3_answersReads_3 3 rfl rfl)
theorem dX3_answersReads_75 : decode cX3_answersReads 75 = .ok (.iaload, 1) := dk_46 (dk_at dksX3_answersReads_3 4 rfl rfl)
theorem dX3_answersReads_76 : decode cX3_answersReads 76 = .ok (.iastore, 1) := dk_79 (dk_at dksX3_answersReads_3 5 rfl rfl)
theorem dX3_answersReads_77 : decode cX3_answersReads 77 = .ok (.aload_n 0, 1) := dk_42 (dk_at dksX3_answersReads_3 6 rfl rfl)
theorem dX3_answersReads_78 : decode cX3_answersReads 78 = .ok (.dup, 1) := dk_89 (dk_at dksX3_answersReads_3 7 rfl rfl)
theorem dX3_answersReads_79 : decode cX3_answersReads 79 = .ok (.getfield 70, 3) := dk_180 0 70 (dk_at dksX3_answersReads_3 8 rfl rfl)
theorem dX3_answersReads_82 : decode cX3_answersReads 82 = .ok (.aload_n 2, 1) := dk_44 (dk_at dksX3_answersReads_3 11 rfl rfl)
theorem dX3_answersReads_83 : decode cX3_answersReads 83 = .ok (.getfield 170, 3) := dk_180 0 170 (dk_at dksX3_answersReads_3 12 rfl rfl)
theorem dX3_answersReads_86 : decode cX3_answersReads 86 = .ok (.aload 4, 2) := dk_25 4 (dk_at dksX3_answersReads_3 15 rfl rfl)
theorem dX3_answersReads_88 : decode cX3_answersReads 88 = .ok (.iconst 3, 1) := dk_6 (dk_at dksX3_answersReads_3 17 rfl rfl)
theorem dX3_answersReads_89 : decode cX3_answersReads 89 = .ok (.iaload, 1) := dk_46 (dk_at dksX3_answersReads_3 18 rfl rfl)
theorem dX3_answersReads_90 : decode cX3_answersReads 90 = .ok (.if_icmp .ge 7, 3) := dk_162 0 7 (dk_at dksX3_answersReads_3 19 rfl rfl)
theorem dX3_answersReads_93 : decode cX3_answersReads 93 = .ok (.iconst 1, 1) := dk_4 (dk_at dksX3_answersReads_3 22 rfl rfl)
theorem dX3_answersReads_94 : decode cX3_answersReads 94 = .ok (.goto 4, 3) := dk_167 0 4 (dk_at dksX3_answersReads_4 0 rfl rfl)
theorem dX3_answersReads_97 : decode cX3_answersReads 97 = .ok (.iconst 0, 1) := dk_3 (dk_at dksX3_answersReads_4 3 rfl rfl)
theorem dX3_answersReads_98 : decode cX3_answersReads 98 = .ok (.iadd, 1) := dk_96 (dk_at dksX3_answersReads_4 4 rfl rfl)
theorem dX3_answersReads_99 : decode cX3_answersReads 99 = .ok (.putfield 70, 3) := dk_181 0 70 (dk_at dksX3_answersReads_4 5 rfl rfl)
theorem dX3_answersReads_102 : decode cX3_answersReads 102 = .ok (.iinc 3 1, 3) := dk_132 3 1 (dk_at dksX3_answersReads_4 8 rfl rfl)
theorem dX3_answersReads_105 : decode cX3_answersReads 105 = .ok (.goto (-96), 3) := dk_167 255 160 (dk_at dksX3_answersReads_4 11 rfl rfl)
theorem dX3_answersReads_108 : decode cX3_answersReads 108 = .ok (.return_, 1) := dk_177 (dk_at dksX3_answersReads_4 14 rfl rfl)
abbrev cX3_withHeard : ByteArray := prog_3_method_30_code
def yX3_withHeard : MethodName := ⟨RX3, "withHeard", "(II)I"⟩
def dkwX3_withHeard_2 : List UInt8 := [172]
abbrev dktX3_withHeard_2 : List UInt8 := dkwX3_withHeard_2 ++ []
def dkwX3_withHeard_1 : List UInt8 := [21, 4, 46, 28, 161, 0, 10, 4, 21, 4, 120, 167, 0, 4, 3, 128, 62, 132, 4, 1, 167, 255, 219, 29]
abbrev dktX3_withHeard_1 : List UInt8 := dkwX3_withHeard_1 ++ dktX3_withHeard_2
def dkwX3_withHeard_0 : List UInt8 := [4, 27, 120, 62, 3, 54, 4, 21, 4, 16, 7, 162, 0, 36, 29, 42, 180, 0, 17, 27, 50, 180, 0, 224]
abbrev dktX3_withHeard_0 : List UInt8 := dkwX3_withHeard_0 ++ dktX3_withHeard_1
theorem dksX3_withHeard_0 : cX3_withHeard.data.toList.drop 0 = dktX3_withHeard_0 := by decide +kernel
theorem dksX3_withHeard_1 : cX3_withHeard.data.toList.drop 24 = dktX3_withHeard_1 := dk_seg dksX3_withHeard_0 24 rfl rfl
theorem dksX3_withHeard_2 : cX3_withHeard.data.toList.drop 48 = dktX3_withHeard_2 := dk_seg dksX3_withHeard_1 24 rfl rfl
theorem dX3_withHeard_0 : decode cX3_withHeard 0 = .ok (.iconst 1, 1) := dk_4 (dk_at dksX3_withHeard_0 0 rfl rfl)
theorem dX3_withHeard_1 : decode cX3_withHeard 1 = .ok (.iload_n 1, 1) := dk_27 (dk_at dksX3_withHeard_0 1 rfl rfl)
theorem dX3_withHeard_2 : decode cX3_withHeard 2 = .ok (.ishl, 1) := dk_120 (dk_at dksX3_withHeard_0 2 rfl rfl)
theorem dX3_withHeard_3 : decode cX3_withHeard 3 = .ok (.istore_n 3, 1) := dk_62 (dk_at dksX3_withHeard_0 3 rfl rfl)
theorem dX3_withHeard_4 : decode cX3_withHeard 4 = .ok (.iconst 0, 1) := dk_3 (dk_at dksX3_withHeard_0 4 rfl rfl)
theorem dX3_withHeard_5 : decode cX3_withHeard 5 = .ok (.istore 4, 2) := dk_54 4 (dk_at dksX3_withHeard_0 5 rfl rfl)
theorem dX3_withHeard_7 : decode cX3_withHeard 7 = .ok (.iload 4, 2) := dk_21 4 (dk_at dksX3_withHeard_0 7 rfl rfl)
theorem dX3_withHeard_9 : decode cX3_withHeard 9 = .ok (.bipush 7, 2) := dk_16 7 (dk_at dksX3_withHeard_0 9 rfl rfl)
theorem dX3_withHeard_11 : decode cX3_withHeard 11 = .ok (.if_icmp .ge 36, 3) := dk_162 0 36 (dk_at dksX3_withHeard_0 11 rfl rfl)
theorem dX3_withHeard_14 : decode cX3_withHeard 14 = .ok (.iload_n 3, 1) := dk_29 (dk_at dksX3_withHeard_0 14 rfl rfl)
theorem dX3_withHeard_15 : decode cX3_withHeard 15 = .ok (.aload_n 0, 1) := dk_42 (dk_at dksX3_withHeard_0 15 rfl rfl)
theorem dX3_withHeard_16 : decode cX3_withHeard 16 = .ok (.getfield 17, 3) := dk_180 0 17 (dk_at dksX3_withHeard_0 16 rfl rfl)
theorem dX3_withHeard_19 : decode cX3_withHeard 19 = .ok (.iload_n 1, 1) := dk_27 (dk_at dksX3_withHeard_0 19 rfl rfl)
theorem dX3_withHeard_20 : decode cX3_withHeard 20 = .ok (.aaload, 1) := dk_50 (dk_at dksX3_withHeard_0 20 rfl rfl)
theorem dX3_withHeard_21 : decode cX3_withHeard 21 = .ok (.getfield 224, 3) := dk_180 0 224 (dk_at dksX3_withHeard_0 21 rfl rfl)
theorem dX3_withHeard_24 : decode cX3_withHeard 24 = .ok (.iload 4, 2) := dk_21 4 (dk_at dksX3_withHeard_1 0 rfl rfl)
theorem dX3_withHeard_26 : decode cX3_withHeard 26 = .ok (.iaload, 1) := dk_46 (dk_at dksX3_withHeard_1 2 rfl rfl)
theorem dX3_withHeard_27 : decode cX3_withHeard 27 = .ok (.iload_n 2, 1) := dk_28 (dk_at dksX3_withHeard_1 3 rfl rfl)
theorem dX3_withHeard_28 : decode cX3_withHeard 28 = .ok (.if_icmp .lt 10, 3) := dk_161 0 10 (dk_at dksX3_withHeard_1 4 rfl rfl)
theorem dX3_withHeard_31 : decode cX3_withHeard 31 = .ok (.iconst 1, 1) := dk_4 (dk_at dksX3_withHeard_1 7 rfl rfl)
theorem dX3_withHeard_32 : decode cX3_withHeard 32 = .ok (.iload 4, 2) := dk_21 4 (dk_at dksX3_withHeard_1 8 rfl rfl)
theorem dX3_withHeard_34 : decode cX3_withHeard 34 = .ok (.ishl, 1) := dk_120 (dk_at dksX3_withHeard_1 10 rfl rfl)
theorem dX3_withHeard_35 : decode cX3_withHeard 35 = .ok (.goto 4, 3) := dk_167 0 4 (dk_at dksX3_withHeard_1 11 rfl rfl)
theorem dX3_withHeard_38 : decode cX3_withHeard 38 = .ok (.iconst 0, 1) := dk_3 (dk_at dksX3_withHeard_1 14 rfl rfl)
theorem dX3_withHeard_39 : decode cX3_withHeard 39 = .ok (.ior, 1) := dk_128 (dk_at dksX3_withHeard_1 15 rfl rfl)
theorem dX3_withHeard_40 : decode cX3_withHeard 40 = .ok (.istore_n 3, 1) := dk_62 (dk_at dksX3_withHeard_1 16 rfl rfl)
theorem dX3_withHeard_41 : decode cX3_withHeard 41 = .ok (.iinc 4 1, 3) := dk_132 4 1 (dk_at dksX3_withHeard_1 17 rfl rfl)
theorem dX3_withHeard_44 : decode cX3_withHeard 44 = .ok (.goto (-37), 3) := dk_167 255 219 (dk_at dksX3_withHeard_1 20 rfl rfl)
theorem dX3_withHeard_47 : decode cX3_withHeard 47 = .ok (.iload_n 3, 1) := dk_29 (dk_at dksX3_withHeard_1 23 rfl rfl)
theorem dX3_withHeard_48 : decode cX3_withHeard 48 = .ok (.ireturn, 1) := dk_172 (dk_at dksX3_withHeard_2 0 rfl rfl)
abbrev cX3_goes : ByteArray := prog_3_method_36_code
def yX3_goes : MethodName := ⟨RX3, "goes", "(I)LTermLog$Cluster;"⟩
def dkwX3_goes_1 : List UInt8 := [182, 1, 77, 132, 2, 1, 167, 255, 234, 42, 176]
abbrev dktX3_goes_1 : List UInt8 := dkwX3_goes_1 ++ []
def dkwX3_goes_0 : List UInt8 := [42, 3, 181, 0, 254, 3, 61, 28, 27, 162, 0, 23, 42, 180, 0, 64, 17, 39, 15, 162, 0, 13, 42]
abbrev dktX3_goes_0 : List UInt8 := dkwX3_goes_0 ++ dktX3_goes_1
theorem dksX3_goes_0 : cX3_goes.data.toList.drop 0 = dktX3_goes_0 := by decide +kernel
theorem dksX3_goes_1 : cX3_goes.data.toList.drop 23 = dktX3_goes_1 := dk_seg dksX3_goes_0 23 rfl rfl
theorem dX3_goes_0 : decode cX3_goes 0 = .ok (.aload_n 0, 1) := dk_42 (dk_at dksX3_goes_0 0 rfl rfl)
theorem dX3_goes_1 : decode cX3_goes 1 = .ok (.iconst 0, 1) := dk_3 (dk_at dksX3_goes_0 1 rfl rfl)
theorem dX3_goes_2 : decode cX3_goes 2 = .ok (.putfield 254, 3) := dk_181 0 254 (dk_at dksX3_goes_0 2 rfl rfl)
theorem dX3_goes_5 : decode cX3_goes 5 = .ok (.iconst 0, 1) := dk_3 (dk_at dksX3_goes_0 5 rfl rfl)
theorem dX3_goes_6 : decode cX3_goes 6 = .ok (.istore_n 2, 1) := dk_61 (dk_at dksX3_goes_0 6 rfl rfl)
theorem dX3_goes_7 : decode cX3_goes 7 = .ok (.iload_n 2, 1) := dk_28 (dk_at dksX3_goes_0 7 rfl rfl)
theorem dX3_goes_8 : decode cX3_goes 8 = .ok (.iload_n 1, 1) := dk_27 (dk_at dksX3_goes_0 8 rfl rfl)
theorem dX3_goes_9 : decode cX3_goes 9 = .ok (.if_icmp .ge 23, 3) := dk_162 0 23 (dk_at dksX3_goes_0 9 rfl rfl)
theorem dX3_goes_12 : decode cX3_goes 12 = .ok (.aload_n 0, 1) := dk_42 (dk_at dksX3_goes_0 12 rfl rfl)
theorem dX3_goes_13 : decode cX3_goes 13 = .ok (.getfield 64, 3) := dk_180 0 64 (dk_at dksX3_goes_0 13 rfl rfl)
theorem dX3_goes_16 : decode cX3_goes 16 = .ok (.sipush 9999, 3) := dk_17 39 15 (dk_at dksX3_goes_0 16 rfl rfl)
theorem dX3_goes_19 : decode cX3_goes 19 = .ok (.if_icmp .ge 13, 3) := dk_162 0 13 (dk_at dksX3_goes_0 19 rfl rfl)
theorem dX3_goes_22 : decode cX3_goes 22 = .ok (.aload_n 0, 1) := dk_42 (dk_at dksX3_goes_0 22 rfl rfl)
theorem dX3_goes_23 : decode cX3_goes 23 = .ok (.invokevirtual 333, 3) := dk_182 1 77 (dk_at dksX3_goes_1 0 rfl rfl)
theorem dX3_goes_26 : decode cX3_goes 26 = .ok (.iinc 2 1, 3) := dk_132 2 1 (dk_at dksX3_goes_1 3 rfl rfl)
theorem dX3_goes_29 : decode cX3_goes 29 = .ok (.goto (-22), 3) := dk_167 255 234 (dk_at dksX3_goes_1 6 rfl rfl)
theorem dX3_goes_32 : decode cX3_goes 32 = .ok (.aload_n 0, 1) := dk_42 (dk_at dksX3_goes_1 9 rfl rfl)
theorem dX3_goes_33 : decode cX3_goes 33 = .ok (.areturn, 1) := dk_176 (dk_at dksX3_goes_1 10 rfl rfl)
abbrev cX3_tickGoes : ByteArray := prog_3_method_35_code
def yX3_tickGoes : MethodName := ⟨RX3, "tickGoes", "()V"⟩
def dkwX3_tickGoes_2 : List UInt8 := [182, 1, 74, 132, 1, 1, 167, 255, 230, 177]
abbrev dktX3_tickGoes_2 : List UInt8 := dkwX3_tickGoes_2 ++ []
def dkwX3_tickGoes_1 : List UInt8 := [3, 60, 27, 16, 7, 162, 0, 26, 42, 180, 0, 17, 27, 50, 180, 1, 44, 153, 0, 8, 42, 27]
abbrev dktX3_tickGoes_1 : List UInt8 := dkwX3_tickGoes_1 ++ dktX3_tickGoes_2
def dkwX3_tickGoes_0 : List UInt8 := [42, 89, 180, 0, 64, 4, 96, 181, 0, 64, 42, 182, 1, 68, 153, 0, 10, 42, 182, 1, 71, 167, 255, 245]
abbrev dktX3_tickGoes_0 : List UInt8 := dkwX3_tickGoes_0 ++ dktX3_tickGoes_1
theorem dksX3_tickGoes_0 : cX3_tickGoes.data.toList.drop 0 = dktX3_tickGoes_0 := by decide +kernel
theorem dksX3_tickGoes_1 : cX3_tickGoes.data.toList.drop 24 = dktX3_tickGoes_1 := dk_seg dksX3_tickGoes_0 24 rfl rfl
theorem dksX3_tickGoes_2 : cX3_tickGoes.data.toList.drop 46 = dktX3_tickGoes_2 := dk_seg dksX3_tickGoes_1 22 rfl rfl
theorem dX3_tickGoes_0 : decode cX3_tickGoes 0 = .ok (.aload_n 0, 1) := dk_42 (dk_at dksX3_tickGoes_0 0 rfl rfl)
theorem dX3_tickGoes_1 : decode cX3_tickGoes 1 = .ok (.dup, 1) := dk_89 (dk_at dksX3_tickGoes_0 1 rfl rfl)
theorem dX3_tickGoes_2 : decode cX3_tickGoes 2 = .ok (.getfield 64, 3) := dk_180 0 64 (dk_at dksX3_tickGoes_0 2 rfl rfl)
theorem dX3_tickGoes_5 : decode cX3_tickGoes 5 = .ok (.iconst 1, 1) := dk_4 (dk_at dksX3_tickGoes_0 5 rfl rfl)
theorem dX3_tickGoes_6 : decode cX3_tickGoes 6 = .ok (.iadd, 1) := dk_96 (dk_at dksX3_tickGoes_0 6 rfl rfl)
theorem dX3_tickGoes_7 : decode cX3_tickGoes 7 = .ok (.putfield 64, 3) := dk_181 0 64 (dk_at dksX3_tickGoes_0 7 rfl rfl)
theorem dX3_tickGoes_10 : decode cX3_tickGoes 10 = .ok (.aload_n 0, 1) := dk_42 (dk_at dksX3_tickGoes_0 10 rfl rfl)
theorem dX3_tickGoes_11 : decode cX3_tickGoes 11 = .ok (.invokevirtual 324, 3) := dk_182 1 68 (dk_at dksX3_tickGoes_0 11 rfl rfl)
theorem dX3_tickGoes_14 : decode cX3_tickGoes 14 = .ok (.ifCond .eq 10, 3) := dk_153 0 10 (dk_at dksX3_tickGoes_0 14 rfl rfl)
theorem dX3_tickGoes_17 : decode cX3_tickGoes 17 = .ok (.aload_n 0, 1) := dk_42 (dk_at dksX3_tickGoes_0 17 rfl rfl)
theorem dX3_tickGoes_18 : decode cX3_tickGoes 18 = .ok (.invokevirtual 327, 3) := dk_182 1 71 (dk_at dksX3_tickGoes_0 18 rfl rfl)
theorem dX3_tickGoes_21 : decode cX3_tickGoes 21 = .ok (.goto (-11), 3) := dk_167 255 245 (dk_at dksX3_tickGoes_0 21 rfl rfl)
theorem dX3_tickGoes_24 : decode cX3_tickGoes 24 = .ok (.iconst 0, 1) := dk_3 (dk_at dksX3_tickGoes_1 0 rfl rfl)
theorem dX3_tickGoes_25 : decode cX3_tickGoes 25 = .ok (.istore_n 1, 1) := dk_60 (dk_at dksX3_tickGoes_1 1 rfl rfl)
theorem dX3_tickGoes_26 : decode cX3_tickGoes 26 = .ok (.iload_n 1, 1) := dk_27 (dk_at dksX3_tickGoes_1 2 rfl rfl)
theorem dX3_tickGoes_27 : decode cX3_tickGoes 27 = .ok (.bipush 7, 2) := dk_16 7 (dk_at dksX3_tickGoes_1 3 rfl rfl)
theorem dX3_tickGoes_29 : decode cX3_tickGoes 29 = .ok (.if_icmp .ge 26, 3) := dk_162 0 26 (dk_at dksX3_tickGoes_1 5 rfl rfl)
theorem dX3_tickGoes_32 : decode cX3_tickGoes 32 = .ok (.aload_n 0, 1) := dk_42 (dk_at dksX3_tickGoes_1 8 rfl rfl)
theorem dX3_tickGoes_33 : decode cX3_tickGoes 33 = .ok (.getfield 17, 3) := dk_180 0 17 (dk_at dksX3_tickGoes_1 9 rfl rfl)
theorem dX3_tickGoes_36 : decode cX3_tickGoes 36 = .ok (.iload_n 1, 1) := dk_27 (dk_at dksX3_tickGoes_1 12 rfl rfl)
theorem dX3_tickGoes_37 : decode cX3_tickGoes 37 = .ok (.aaload, 1) := dk_50 (dk_at dksX3_tickGoes_1 13 rfl rfl)
theorem dX3_tickGoes_38 : decode cX3_tickGoes 38 = .ok (.getfield 300, 3) := dk_180 1 44 (dk_at dksX3_tickGoes_1 14 rfl rfl)
theorem dX3_tickGoes_41 : decode cX3_tickGoes 41 = .ok (.ifCond .eq 8, 3) := dk_153 0 8 (dk_at dksX3_tickGoes_1 17 rfl rfl)
theorem dX3_tickGoes_44 : decode cX3_tickGoes 44 = .ok (.aload_n 0, 1) := dk_42 (dk_at dksX3_tickGoes_1 20 rfl rfl)
theorem dX3_tickGoes_45 : decode cX3_tickGoes 45 = .ok (.iload_n 1, 1) := dk_27 (dk_at dksX3_tickGoes_1 21 rfl rfl)
theorem dX3_tickGoes_46 : decode cX3_tickGoes 46 = .ok (.invokevirtual 330, 3) := dk_182 1 74 (dk_at dksX3_tickGoes_2 0 rfl rfl)
theorem dX3_tickGoes_49 : decode cX3_tickGoes 49 = .ok (.iinc 1 1, 3) := dk_132 1 1 (dk_at dksX3_tickGoes_2 3 rfl rfl)
theorem dX3_tickGoes_52 : decode cX3_tickGoes 52 = .ok (.goto (-26), 3) := dk_167 255 230 (dk_at dksX3_tickGoes_2 6 rfl rfl)
theorem dX3_tickGoes_55 : decode cX3_tickGoes 55 = .ok (.return_, 1) := dk_177 (dk_at dksX3_tickGoes_2 9 rfl rfl)
abbrev cX3_takesDue : ByteArray := prog_3_method_13_code
def yX3_takesDue : MethodName := ⟨RX3, "takesDue", "()Z"⟩
def dkwX3_takesDue_4 : List UInt8 := [167, 255, 167, 3, 172]
abbrev dktX3_takesDue_4 : List UInt8 := dkwX3_takesDue_4 ++ []
def dkwX3_takesDue_3 : List UInt8 := [4, 96, 50, 42, 180, 0, 23, 28, 50, 182, 0, 54, 132, 2, 1, 167, 255, 227, 4, 172, 132, 1, 1]
abbrev dktX3_takesDue_3 : List UInt8 := dkwX3_takesDue_3 ++ dktX3_takesDue_4
def dkwX3_takesDue_2 : List UInt8 := [180, 0, 50, 4, 100, 181, 0, 50, 27, 61, 28, 42, 180, 0, 50, 162, 0, 27, 42, 42, 180, 0, 23, 28]
abbrev dktX3_takesDue_2 : List UInt8 := dkwX3_takesDue_2 ++ dktX3_takesDue_3
def dkwX3_takesDue_1 : List UInt8 := [164, 0, 6, 167, 0, 63, 42, 42, 180, 0, 23, 27, 50, 42, 180, 0, 42, 182, 0, 54, 42, 89]
abbrev dktX3_takesDue_1 : List UInt8 := dkwX3_takesDue_1 ++ dktX3_takesDue_2
def dkwX3_takesDue_0 : List UInt8 := [3, 60, 27, 42, 180, 0, 50, 162, 0, 87, 42, 180, 0, 23, 27, 50, 7, 46, 42, 180, 0, 64]
abbrev dktX3_takesDue_0 : List UInt8 := dkwX3_takesDue_0 ++ dktX3_takesDue_1
theorem dksX3_takesDue_0 : cX3_takesDue.data.toList.drop 0 = dktX3_takesDue_0 := by decide +kernel
theorem dksX3_takesDue_1 : cX3_takesDue.data.toList.drop 22 = dktX3_takesDue_1 := dk_seg dksX3_takesDue_0 22 rfl rfl
theorem dksX3_takesDue_2 : cX3_takesDue.data.toList.drop 44 = dktX3_takesDue_2 := dk_seg dksX3_takesDue_1 22 rfl rfl
theorem dksX3_takesDue_3 : cX3_takesDue.data.toList.drop 68 = dktX3_takesDue_3 := dk_seg dksX3_takesDue_2 24 rfl rfl
theorem dksX3_takesDue_4 : cX3_takesDue.data.toList.drop 91 = dktX3_takesDue_4 := dk_seg dksX3_takesDue_3 23 rfl rfl
theorem dX3_takesDue_0 : decode cX3_takesDue 0 = .ok (.iconst 0, 1) := dk_3 (dk_at dksX3_takesDue_0 0 rfl rfl)
theorem dX3_takesDue_1 : decode cX3_takesDue 1 = .ok (.istore_n 1, 1) := dk_60 (dk_at dksX3_takesDue_0 1 rfl rfl)
theorem dX3_takesDue_2 : decode cX3_takesDue 2 = .ok (.iload_n 1, 1) := dk_27 (dk_at dksX3_takesDue_0 2 rfl rfl)
theorem dX3_takesDue_3 : decode cX3_takesDue 3 = .ok (.aload_n 0, 1) := dk_42 (dk_at dksX3_takesDue_0 3 rfl rfl)
theorem dX3_takesDue_4 : decode cX3_takesDue 4 = .ok (.getfield 50, 3) := dk_180 0 50 (dk_at dksX3_takesDue_0 4 rfl rfl)
theorem dX3_takesDue_7 : decode cX3_takesDue 7 = .ok (.if_icmp .ge 87, 3) := dk_162 0 87 (dk_at dksX3_takesDue_0 7 rfl rfl)
theorem dX3_takesDue_10 : decode cX3_takesDue 10 = .ok (.aload_n 0, 1) := dk_42 (dk_at dksX3_takesDue_0 10 rfl rfl)
theorem dX3_takesDue_11 : decode cX3_takesDue 11 = .ok (.getfield 23, 3) := dk_180 0 23 (dk_at dksX3_takesDue_0 11 rfl rfl)
theorem dX3_takesDue_14 : decode cX3_takesDue 14 = .ok (.iload_n 1, 1) := dk_27 (dk_at dksX3_takesDue_0 14 rfl rfl)
theorem dX3_takesDue_15 : decode cX3_takesDue 15 = .ok (.aaload, 1) := dk_50 (dk_at dksX3_takesDue_0 15 rfl rfl)
theorem dX3_takesDue_16 : decode cX3_takesDue 16 = .ok (.iconst 4, 1) := dk_7 (dk_at dksX3_takesDue_0 16 rfl rfl)
theorem dX3_takesDue_17 : decode cX3_takesDue 17 = .ok (.iaload, 1) := dk_46 (dk_at dksX3_takesDue_0 17 rfl rfl)
theorem dX3_takesDue_18 : decode cX3_takesDue 18 = .ok (.aload_n 0, 1) := dk_42 (dk_at dksX3_takesDue_0 18 rfl rfl)
theorem dX3_takesDue_19 : decode cX3_takesDue 19 = .ok (.getfield 64, 3) := dk_180 0 64 (dk_at dksX3_takesDue_0 19 rfl rfl)
theorem dX3_takesDue_22 : decode cX3_takesDue 22 = .ok (.if_icmp .le 6, 3) := dk_164 0 6 (dk_at dksX3_takesDue_1 0 rfl rfl)
theorem dX3_takesDue_25 : decode cX3_takesDue 25 = .ok (.goto 63, 3) := dk_167 0 63 (dk_at dksX3_takesDue_1 3 rfl rfl)
theorem dX3_takesDue_28 : decode cX3_takesDue 28 = .ok (.aload_n 0, 1) := dk_42 (dk_at dksX3_takesDue_1 6 rfl rfl)
theorem dX3_takesDue_29 : decode cX3_takesDue 29 = .ok (.aload_n 0, 1) := dk_42 (dk_at dksX3_takesDue_1 7 rfl rfl)
theorem dX3_takesDue_30 : decode cX3_takesDue 30 = .ok (.getfield 23, 3) := dk_180 0 23 (dk_at dksX3_takesDue_1 8 rfl rfl)
theorem dX3_takesDue_33 : decode cX3_takesDue 33 = .ok (.iload_n 1, 1) := dk_27 (dk_at dksX3_takesDue_1 11 rfl rfl)
theorem dX3_takesDue_34 : decode cX3_takesDue 34 = .ok (.aaload, 1) := dk_50 (dk_at dksX3_takesDue_1 12 rfl rfl)
theorem dX3_takesDue_35 : decode cX3_takesDue 35 = .ok (.aload_n 0, 1) := dk_42 (dk_at dksX3_takesDue_1 13 rfl rfl)
theorem dX3_takesDue_36 : decode cX3_takesDue 36 = .ok (.getfield 42, 3) := dk_180 0 42 (dk_at dksX3_takesDue_1 14 rfl rfl)
theorem dX3_takesDue_39 : decode cX3_takesDue 39 = .ok (.invokevirtual 54, 3) := dk_182 0 54 (dk_at dksX3_takesDue_1 17 rfl rfl)
theorem dX3_takesDue_42 : decode cX3_takesDue 42 = .ok (.aload_n 0, 1) := dk_42 (dk_at dksX3_takesDue_1 20 rfl rfl)
theorem dX3_takesDue_43 : decode cX3_takesDue 43 = .ok (.dup, 1) := dk_89 (dk_at dksX3_takesDue_1 21 rfl rfl)
theorem dX3_takesDue_44 : decode cX3_takesDue 44 = .ok (.getfield 50, 3) := dk_180 0 50 (dk_at dksX3_takesDue_2 0 rfl rfl)
theorem dX3_takesDue_47 : decode cX3_takesDue 47 = .ok (.iconst 1, 1) := dk_4 (dk_at dksX3_takesDue_2 3 rfl rfl)
theorem dX3_takesDue_48 : decode cX3_takesDue 48 = .ok (.isub, 1) := dk_100 (dk_at dksX3_takesDue_2 4 rfl rfl)
theorem dX3_takesDue_49 : decode cX3_takesDue 49 = .ok (.putfield 50, 3) := dk_181 0 50 (dk_at dksX3_takesDue_2 5 rfl rfl)
theorem dX3_takesDue_52 : decode cX3_takesDue 52 = .ok (.iload_n 1, 1) := dk_27 (dk_at dksX3_takesDue_2 8 rfl rfl)
theorem dX3_takesDue_53 : decode cX3_takesDue 53 = .ok (.istore_n 2, 1) := dk_61 (dk_at dksX3_takesDue_2 9 rfl rfl)
theorem dX3_takesDue_54 : decode cX3_takesDue 54 = .ok (.iload_n 2, 1) := dk_28 (dk_at dksX3_takesDue_2 10 rfl rfl)
theorem dX3_takesDue_55 : decode cX3_takesDue 55 = .ok (.aload_n 0, 1) := dk_42 (dk_at dksX3_takesDue_2 11 rfl rfl)
theorem dX3_takesDue_56 : decode cX3_takesDue 56 = .ok (.getfield 50, 3) := dk_180 0 50 (dk_at dksX3_takesDue_2 12 rfl rfl)
theorem dX3_takesDue_59 : decode cX3_takesDue 59 = .ok (.if_icmp .ge 27, 3) := dk_162 0 27 (dk_at dksX3_takesDue_2 15 rfl rfl)
theorem dX3_takesDue_62 : decode cX3_takesDue 62 = .ok (.aload_n 0, 1) := dk_42 (dk_at dksX3_takesDue_2 18 rfl rfl)
theorem dX3_takesDue_63 : decode cX3_takesDue 63 = .ok (.aload_n 0, 1) := dk_42 (dk_at dksX3_takesDue_2 19 rfl rfl)
theorem dX3_takesDue_64 : decode cX3_takesDue 64 = .ok (.getfield 23, 3) := dk_180 0 23 (dk_at dksX3_takesDue_2 20 rfl rfl)
theorem dX3_takesDue_67 : decode cX3_takesDue 67 = .ok (.iload_n 2, 1) := dk_28 (dk_at dksX3_takesDue_2 23 rfl rfl)
theorem dX3_takesDue_68 : decode cX3_takesDue 68 = .ok (.iconst 1, 1) := dk_4 (dk_at dksX3_takesDue_3 0 rfl rfl)
theorem dX3_takesDue_69 : decode cX3_takesDue 69 = .ok (.iadd, 1) := dk_96 (dk_at dksX3_takesDue_3 1 rfl rfl)
theorem dX3_takesDue_70 : decode cX3_takesDue 70 = .ok (.aaload, 1) := dk_50 (dk_at dksX3_takesDue_3 2 rfl rfl)
theorem dX3_takesDue_71 : decode cX3_takesDue 71 = .ok (.aload_n 0, 1) := dk_42 (dk_at dksX3_takesDue_3 3 rfl rfl)
theorem dX3_takesDue_72 : decode cX3_takesDue 72 = .ok (.getfield 23, 3) := dk_180 0 23 (dk_at dksX3_takesDue_3 4 rfl rfl)
theorem dX3_takesDue_75 : decode cX3_takesDue 75 = .ok (.iload_n 2, 1) := dk_28 (dk_at dksX3_takesDue_3 7 rfl rfl)
theorem dX3_takesDue_76 : decode cX3_takesDue 76 = .ok (.aaload, 1) := dk_50 (dk_at dksX3_takesDue_3 8 rfl rfl)
theorem dX3_takesDue_77 : decode cX3_takesDue 77 = .ok (.invokevirtual 54, 3) := dk_182 0 54 (dk_at dksX3_takesDue_3 9 rfl rfl)
theorem dX3_takesDue_80 : decode cX3_takesDue 80 = .ok (.iinc 2 1, 3) := dk_132 2 1 (dk_at dksX3_takesDue_3 12 rfl rfl)
theorem dX3_takesDue_83 : decode cX3_takesDue 83 = .ok (.goto (-29), 3) := dk_167 255 227 (dk_at dksX3_takesDue_3 15 rfl rfl)
theorem dX3_takesDue_86 : decode cX3_takesDue 86 = .ok (.iconst 1, 1) := dk_4 (dk_at dksX3_takesDue_3 18 rfl rfl)
theorem dX3_takesDue_87 : decode cX3_takesDue 87 = .ok (.ireturn, 1) := dk_172 (dk_at dksX3_takesDue_3 19 rfl rfl)
theorem dX3_takesDue_88 : decode cX3_takesDue 88 = .ok (.iinc 1 1, 3) := dk_132 1 1 (dk_at dksX3_takesDue_3 20 rfl rfl)
theorem dX3_takesDue_91 : decode cX3_takesDue 91 = .ok (.goto (-89), 3) := dk_167 255 167 (dk_at dksX3_takesDue_4 0 rfl rfl)
theorem dX3_takesDue_94 : decode cX3_takesDue 94 = .ok (.iconst 0, 1) := dk_3 (dk_at dksX3_takesDue_4 3 rfl rfl)
theorem dX3_takesDue_95 : decode cX3_takesDue 95 = .ok (.ireturn, 1) := dk_172 (dk_at dksX3_takesDue_4 4 rfl rfl)
abbrev cX3_isHanded : ByteArray := prog_3_method_33_code
def yX3_isHanded : MethodName := ⟨RX3, "isHanded", "()V"⟩
def dkwX3_isHanded_6 : List UInt8 := [42, 27, 182, 1, 59, 167, 0, 8, 42, 27, 182, 1, 62, 177]
abbrev dktX3_isHanded_6 : List UInt8 := dkwX3_isHanded_6 ++ []
def dkwX3_isHanded_5 : List UInt8 := [42, 27, 182, 1, 51, 167, 0, 32, 42, 27, 182, 1, 53, 167, 0, 24, 42, 27, 182, 1, 56, 167, 0, 16]
abbrev dktX3_isHanded_5 : List UInt8 := dkwX3_isHanded_5 ++ dktX3_isHanded_6
def dkwX3_isHanded_4 : List UInt8 := [170, 0, 0, 0, 0, 0, 0, 68, 0, 0, 0, 0, 0, 0, 0, 4, 0, 0, 0, 36, 0, 0, 0, 44, 0, 0, 0, 52, 0, 0, 0, 68, 0, 0, 0, 60]
abbrev dktX3_isHanded_4 : List UInt8 := dkwX3_isHanded_4 ++ dktX3_isHanded_5
def dkwX3_isHanded_3 : List UInt8 := [182, 1, 5, 42, 180, 0, 42, 5, 46]
abbrev dktX3_isHanded_3 : List UInt8 := dkwX3_isHanded_3 ++ dktX3_isHanded_4
def dkwX3_isHanded_2 : List UInt8 := [180, 0, 92, 164, 0, 24, 44, 42, 180, 0, 42, 6, 46, 181, 0, 92, 44, 2, 181, 0, 208, 42, 27, 2]
abbrev dktX3_isHanded_2 : List UInt8 := dkwX3_isHanded_2 ++ dktX3_isHanded_3
def dkwX3_isHanded_1 : List UInt8 := [180, 0, 42, 3, 46, 182, 1, 48, 154, 0, 8, 42, 182, 0, 135, 177, 42, 180, 0, 42, 6, 46, 44]
abbrev dktX3_isHanded_1 : List UInt8 := dkwX3_isHanded_1 ++ dktX3_isHanded_2
def dkwX3_isHanded_0 : List UInt8 := [42, 180, 0, 42, 4, 46, 60, 42, 180, 0, 17, 27, 50, 77, 44, 180, 1, 44, 153, 0, 17, 42, 27, 42]
abbrev dktX3_isHanded_0 : List UInt8 := dkwX3_isHanded_0 ++ dktX3_isHanded_1
theorem dksX3_isHanded_0 : cX3_isHanded.data.toList.drop 0 = dktX3_isHanded_0 := by decide +kernel
theorem dksX3_isHanded_1 : cX3_isHanded.data.toList.drop 24 = dktX3_isHanded_1 := dk_seg dksX3_isHanded_0 24 rfl rfl
theorem dksX3_isHanded_2 : cX3_isHanded.data.toList.drop 47 = dktX3_isHanded_2 := dk_seg dksX3_isHanded_1 23 rfl rfl
theorem dksX3_isHanded_3 : cX3_isHanded.data.toList.drop 71 = dktX3_isHanded_3 := dk_seg dksX3_isHanded_2 24 rfl rfl
theorem dksX3_isHanded_4 : cX3_isHanded.data.toList.drop 80 = dktX3_isHanded_4 := dk_seg dksX3_isHanded_3 9 rfl rfl
theorem dksX3_isHanded_5 : cX3_isHanded.data.toList.drop 116 = dktX3_isHanded_5 := dk_seg dksX3_isHanded_4 36 rfl rfl
theorem dksX3_isHanded_6 : cX3_isHanded.data.toList.drop 140 = dktX3_isHanded_6 := dk_seg dksX3_isHanded_5 24 rfl rfl
theorem dX3_isHanded_0 : decode cX3_isHanded 0 = .ok (.aload_n 0, 1) := dk_42 (dk_at dksX3_isHanded_0 0 rfl rfl)
theorem dX3_isHanded_1 : decode cX3_isHanded 1 = .ok (.getfield 42, 3) := dk_180 0 42 (dk_at dksX3_isHanded_0 1 rfl rfl)
theorem dX3_isHanded_4 : decode cX3_isHanded 4 = .ok (.iconst 1, 1) := dk_4 (dk_at dksX3_isHanded_0 4 rfl rfl)
theorem dX3_isHanded_5 : decode cX3_isHanded 5 = .ok (.iaload, 1) := dk_46 (dk_at dksX3_isHanded_0 5 rfl rfl)
theorem dX3_isHanded_6 : decode cX3_isHanded 6 = .ok (.istore_n 1, 1) := dk_60 (dk_at dksX3_isHanded_0 6 rfl rfl)
theorem dX3_isHanded_7 : decode cX3_isHanded 7 = .ok (.aload_n 0, 1) := dk_42 (dk_at dksX3_isHanded_0 7 rfl rfl)
theorem dX3_isHanded_8 : decode cX3_isHanded 8 = .ok (.getfield 17, 3) := dk_180 0 17 (dk_at dksX3_isHanded_0 8 rfl rfl)
theorem dX3_isHanded_11 : decode cX3_isHanded 11 = .ok (.iload_n 1, 1) := dk_27 (dk_at dksX3_isHanded_0 11 rfl rfl)
theorem dX3_isHanded_12 : decode cX3_isHanded 12 = .ok (.aaload, 1) := dk_50 (dk_at dksX3_isHanded_0 12 rfl rfl)
theorem dX3_isHanded_13 : decode cX3_isHanded 13 = .ok (.astore_n 2, 1) := dk_77 (dk_at dksX3_isHanded_0 13 rfl rfl)
theorem dX3_isHanded_14 : decode cX3_isHanded 14 = .ok (.aload_n 2, 1) := dk_44 (dk_at dksX3_isHanded_0 14 rfl rfl)
theorem dX3_isHanded_15 : decode cX3_isHanded 15 = .ok (.getfield 300, 3) := dk_180 1 44 (dk_at dksX3_isHanded_0 15 rfl rfl)
theorem dX3_isHanded_18 : decode cX3_isHanded 18 = .ok (.ifCond .eq 17, 3) := dk_153 0 17 (dk_at dksX3_isHanded_0 18 rfl rfl)
theorem dX3_isHanded_21 : decode cX3_isHanded 21 = .ok (.aload_n 0, 1) := dk_42 (dk_at dksX3_isHanded_0 21 rfl rfl)
theorem dX3_isHanded_22 : decode cX3_isHanded 22 = .ok (.iload_n 1, 1) := dk_27 (dk_at dksX3_isHanded_0 22 rfl rfl)
theorem dX3_isHanded_23 : decode cX3_isHanded 23 = .ok (.aload_n 0, 1) := dk_42 (dk_at dksX3_isHanded_0 23 rfl rfl)
theorem dX3_isHanded_24 : decode cX3_isHanded 24 = .ok (.getfield 42, 3) := dk_180 0 42 (dk_at dksX3_isHanded_1 0 rfl rfl)
theorem dX3_isHanded_27 : decode cX3_isHanded 27 = .ok (.iconst 0, 1) := dk_3 (dk_at dksX3_isHanded_1 3 rfl rfl)
theorem dX3_isHanded_28 : decode cX3_isHanded 28 = .ok (.iaload, 1) := dk_46 (dk_at dksX3_isHanded_1 4 rfl rfl)
theorem dX3_isHanded_29 : decode cX3_isHanded 29 = .ok (.invokevirtual 304, 3) := dk_182 1 48 (dk_at dksX3_isHanded_1 5 rfl rfl)
theorem dX3_isHanded_32 : decode cX3_isHanded 32 = .ok (.ifCond .ne 8, 3) := dk_154 0 8 (dk_at dksX3_isHanded_1 8 rfl rfl)
theorem dX3_isHanded_35 : decode cX3_isHanded 35 = .ok (.aload_n 0, 1) := dk_42 (dk_at dksX3_isHanded_1 11 rfl rfl)
theorem dX3_isHanded_36 : decode cX3_isHanded 36 = .ok (.invokevirtual 135, 3) := dk_182 0 135 (dk_at dksX3_isHanded_1 12 rfl rfl)
theorem dX3_isHanded_39 : decode cX3_isHanded 39 = .ok (.return_, 1) := dk_177 (dk_at dksX3_isHanded_1 15 rfl rfl)
theorem dX3_isHanded_40 : decode cX3_isHanded 40 = .ok (.aload_n 0, 1) := dk_42 (dk_at dksX3_isHanded_1 16 rfl rfl)
theorem dX3_isHanded_41 : decode cX3_isHanded 41 = .ok (.getfield 42, 3) := dk_180 0 42 (dk_at dksX3_isHanded_1 17 rfl rfl)
theorem dX3_isHanded_44 : decode cX3_isHanded 44 = .ok (.iconst 3, 1) := dk_6 (dk_at dksX3_isHanded_1 20 rfl rfl)
theorem dX3_isHanded_45 : decode cX3_isHanded 45 = .ok (.iaload, 1) := dk_46 (dk_at dksX3_isHanded_1 21 rfl rfl)
theorem dX3_isHanded_46 : decode cX3_isHanded 46 = .ok (.aload_n 2, 1) := dk_44 (dk_at dksX3_isHanded_1 22 rfl rfl)
theorem dX3_isHanded_47 : decode cX3_isHanded 47 = .ok (.getfield 92, 3) := dk_180 0 92 (dk_at dksX3_isHanded_2 0 rfl rfl)
theorem dX3_isHanded_50 : decode cX3_isHanded 50 = .ok (.if_icmp .le 24, 3) := dk_164 0 24 (dk_at dksX3_isHanded_2 3 rfl rfl)
theorem dX3_isHanded_53 : decode cX3_isHanded 53 = .ok (.aload_n 2, 1) := dk_44 (dk_at dksX3_isHanded_2 6 rfl rfl)
theorem dX3_isHanded_54 : decode cX3_isHanded 54 = .ok (.aload_n 0, 1) := dk_42 (dk_at dksX3_isHanded_2 7 rfl rfl)
theorem dX3_isHanded_55 : decode cX3_isHanded 55 = .ok (.getfield 42, 3) := dk_180 0 42 (dk_at dksX3_isHanded_2 8 rfl rfl)
theorem dX3_isHanded_58 : decode cX3_isHanded 58 = .ok (.iconst 3, 1) := dk_6 (dk_at dksX3_isHanded_2 11 rfl rfl)
theorem dX3_isHanded_59 : decode cX3_isHanded 59 = .ok (.iaload, 1) := dk_46 (dk_at dksX3_isHanded_2 12 rfl rfl)
theorem dX3_isHanded_60 : decode cX3_isHanded 60 = .ok (.putfield 92, 3) := dk_181 0 92 (dk_at dksX3_isHanded_2 13 rfl rfl)
theorem dX3_isHanded_63 : decode cX3_isHanded 63 = .ok (.aload_n 2, 1) := dk_44 (dk_at dksX3_isHanded_2 16 rfl rfl)
theorem dX3_isHanded_64 : decode cX3_isHanded 64 = .ok (.iconst (-1), 1) := dk_2 (dk_at dksX3_isHanded_2 17 rfl rfl)
theorem dX3_isHanded_65 : decode cX3_isHanded 65 = .ok (.putfield 208, 3) := dk_181 0 208 (dk_at dksX3_isHanded_2 18 rfl rfl)
theorem dX3_isHanded_68 : decode cX3_isHanded 68 = .ok (.aload_n 0, 1) := dk_42 (dk_at dksX3_isHanded_2 21 rfl rfl)
theorem dX3_isHanded_69 : decode cX3_isHanded 69 = .ok (.iload_n 1, 1) := dk_27 (dk_at dksX3_isHanded_2 22 rfl rfl)
theorem dX3_isHanded_70 : decode cX3_isHanded 70 = .ok (.iconst (-1), 1) := dk_2 (dk_at dksX3_isHanded_2 23 rfl rfl)
theorem dX3_isHanded_71 : decode cX3_isHanded 71 = .ok (.invokevirtual 261, 3) := dk_182 1 5 (dk_at dksX3_isHanded_3 0 rfl rfl)
theorem dX3_isHanded_74 : decode cX3_isHanded 74 = .ok (.aload_n 0, 1) := dk_42 (dk_at dksX3_isHanded_3 3 rfl rfl)
theorem dX3_isHanded_75 : decode cX3_isHanded 75 = .ok (.getfield 42, 3) := dk_180 0 42 (dk_at dksX3_isHanded_3 4 rfl rfl)
theorem dX3_isHanded_78 : decode cX3_isHanded 78 = .ok (.iconst 2, 1) := dk_5 (dk_at dksX3_isHanded_3 7 rfl rfl)
theorem dX3_isHanded_79 : decode cX3_isHanded 79 = .ok (.iaload, 1) := dk_46 (dk_at dksX3_isHanded_3 8 rfl rfl)
theorem dX3_isHanded_80 : decode cX3_isHanded 80 = .ok (.tableswitch 68 0 4 #[36, 44, 52, 68, 60], 36) := by decide +kernel
theorem dX3_isHanded_116 : decode cX3_isHanded 116 = .ok (.aload_n 0, 1) := dk_42 (dk_at dksX3_isHanded_5 0 rfl rfl)
theorem dX3_isHanded_117 : decode cX3_isHanded 117 = .ok (.iload_n 1, 1) := dk_27 (dk_at dksX3_isHanded_5 1 rfl rfl)
theorem dX3_isHanded_118 : decode cX3_isHanded 118 = .ok (.invokevirtual 307, 3) := dk_182 1 51 (dk_at dksX3_isHanded_5 2 rfl rfl)
theorem dX3_isHanded_121 : decode cX3_isHanded 121 = .ok (.goto 32, 3) := dk_167 0 32 (dk_at dksX3_isHanded_5 5 rfl rfl)
theorem dX3_isHanded_124 : decode cX3_isHanded 124 = .ok (.aload_n 0, 1) := dk_42 (dk_at dksX3_isHanded_5 8 rfl rfl)
theorem dX3_isHanded_125 : decode cX3_isHanded 125 = .ok (.iload_n 1, 1) := dk_27 (dk_at dksX3_isHanded_5 9 rfl rfl)
theorem dX3_isHanded_126 : decode cX3_isHanded 126 = .ok (.invokevirtual 309, 3) := dk_182 1 53 (dk_at dksX3_isHanded_5 10 rfl rfl)
theorem dX3_isHanded_129 : decode cX3_isHanded 129 = .ok (.goto 24, 3) := dk_167 0 24 (dk_at dksX3_isHanded_5 13 rfl rfl)
theorem dX3_isHanded_132 : decode cX3_isHanded 132 = .ok (.aload_n 0, 1) := dk_42 (dk_at dksX3_isHanded_5 16 rfl rfl)
theorem dX3_isHanded_133 : decode cX3_isHanded 133 = .ok (.iload_n 1, 1) := dk_27 (dk_at dksX3_isHanded_5 17 rfl rfl)
theorem dX3_isHanded_134 : decode cX3_isHanded 134 = .ok (.invokevirtual 312, 3) := dk_182 1 56 (dk_at dksX3_isHanded_5 18 rfl rfl)
theorem dX3_isHanded_137 : decode cX3_isHanded 137 = .ok (.goto 16, 3) := dk_167 0 16 (dk_at dksX3_isHanded_5 21 rfl rfl)
theorem dX3_isHanded_140 : decode cX3_isHanded 140 = .ok (.aload_n 0, 1) := dk_42 (dk_at dksX3_isHanded_6 0 rfl rfl)
theorem dX3_isHanded_141 : decode cX3_isHanded 141 = .ok (.iload_n 1, 1) := dk_27 (dk_at dksX3_isHanded_6 1 rfl rfl)
theorem dX3_isHanded_142 : decode cX3_isHanded 142 = .ok (.invokevirtual 315, 3) := dk_182 1 59 (dk_at dksX3_isHanded_6 2 rfl rfl)
theorem dX3_isHanded_145 : decode cX3_isHanded 145 = .ok (.goto 8, 3) := dk_167 0 8 (dk_at dksX3_isHanded_6 5 rfl rfl)
theorem dX3_isHanded_148 : decode cX3_isHanded 148 = .ok (.aload_n 0, 1) := dk_42 (dk_at dksX3_isHanded_6 8 rfl rfl)
theorem dX3_isHanded_149 : decode cX3_isHanded 149 = .ok (.iload_n 1, 1) := dk_27 (dk_at dksX3_isHanded_6 9 rfl rfl)
theorem dX3_isHanded_150 : decode cX3_isHanded 150 = .ok (.invokevirtual 318, 3) := dk_182 1 62 (dk_at dksX3_isHanded_6 10 rfl rfl)
theorem dX3_isHanded_153 : decode cX3_isHanded 153 = .ok (.return_, 1) := dk_177 (dk_at dksX3_isHanded_6 13 rfl rfl)
abbrev cX3_areLinked : ByteArray := prog_3_method_32_code
def yX3_areLinked : MethodName := ⟨RX3, "areLinked", "(II)Z"⟩
def dkwX3_areLinked_0 : List UInt8 := [42, 180, 0, 32, 27, 46, 28, 184, 0, 191, 154, 0, 7, 4, 167, 0, 4, 3, 172]
abbrev dktX3_areLinked_0 : List UInt8 := dkwX3_areLinked_0 ++ []
theorem dksX3_areLinked_0 : cX3_areLinked.data.toList.drop 0 = dktX3_areLinked_0 := by decide +kernel
theorem dX3_areLinked_0 : decode cX3_areLinked 0 = .ok (.aload_n 0, 1) := dk_42 (dk_at dksX3_areLinked_0 0 rfl rfl)
theorem dX3_areLinked_1 : decode cX3_areLinked 1 = .ok (.getfield 32, 3) := dk_180 0 32 (dk_at dksX3_areLinked_0 1 rfl rfl)
theorem dX3_areLinked_4 : decode cX3_areLinked 4 = .ok (.iload_n 1, 1) := dk_27 (dk_at dksX3_areLinked_0 4 rfl rfl)
theorem dX3_areLinked_5 : decode cX3_areLinked 5 = .ok (.iaload, 1) := dk_46 (dk_at dksX3_areLinked_0 5 rfl rfl)
theorem dX3_areLinked_6 : decode cX3_areLinked 6 = .ok (.iload_n 2, 1) := dk_28 (dk_at dksX3_areLinked_0 6 rfl rfl)
theorem dX3_areLinked_7 : decode cX3_areLinked 7 = .ok (.invokestatic 191, 3) := dk_184 0 191 (dk_at dksX3_areLinked_0 7 rfl rfl)
theorem dX3_areLinked_10 : decode cX3_areLinked 10 = .ok (.ifCond .ne 7, 3) := dk_154 0 7 (dk_at dksX3_areLinked_0 10 rfl rfl)
theorem dX3_areLinked_13 : decode cX3_areLinked 13 = .ok (.iconst 1, 1) := dk_4 (dk_at dksX3_areLinked_0 13 rfl rfl)
theorem dX3_areLinked_14 : decode cX3_areLinked 14 = .ok (.goto 4, 3) := dk_167 0 4 (dk_at dksX3_areLinked_0 14 rfl rfl)
theorem dX3_areLinked_17 : decode cX3_areLinked 17 = .ok (.iconst 0, 1) := dk_3 (dk_at dksX3_areLinked_0 17 rfl rfl)
theorem dX3_areLinked_18 : decode cX3_areLinked 18 = .ok (.ireturn, 1) := dk_172 (dk_at dksX3_areLinked_0 18 rfl rfl)
abbrev cX3_votes : ByteArray := prog_3_method_18_code
def yX3_votes : MethodName := ⟨RX3, "votes", "(I)V"⟩
def dkwX3_votes_4 : List UInt8 := [153, 0, 7, 4, 167, 0, 4, 3, 3, 3, 182, 0, 243, 177]
abbrev dktX3_votes_4 : List UInt8 := dkwX3_votes_4 ++ []
def dkwX3_votes_3 : List UInt8 := [42, 180, 0, 42, 3, 46, 181, 0, 208, 42, 27, 182, 0, 80, 42, 27, 42, 180, 0, 42, 3, 46, 4, 29]
abbrev dktX3_votes_3 : List UInt8 := dkwX3_votes_3 ++ dktX3_votes_4
def dkwX3_votes_2 : List UInt8 := [46, 42, 180, 0, 42, 8, 46, 182, 0, 240, 153, 0, 7, 4, 167, 0, 4, 3, 62, 29, 153, 0, 18, 44]
abbrev dktX3_votes_2 : List UInt8 := dkwX3_votes_2 ++ dktX3_votes_3
def dkwX3_votes_1 : List UInt8 := [2, 159, 0, 16, 44, 180, 0, 208, 42, 180, 0, 42, 3, 46, 160, 0, 27, 44, 42, 180, 0, 42, 16, 6]
abbrev dktX3_votes_1 : List UInt8 := dkwX3_votes_1 ++ dktX3_votes_2
def dkwX3_votes_0 : List UInt8 := [42, 180, 0, 17, 27, 50, 77, 42, 180, 0, 42, 6, 46, 44, 180, 0, 92, 160, 0, 48, 44, 180, 0, 208]
abbrev dktX3_votes_0 : List UInt8 := dkwX3_votes_0 ++ dktX3_votes_1
theorem dksX3_votes_0 : cX3_votes.data.toList.drop 0 = dktX3_votes_0 := by decide +kernel
theorem dksX3_votes_1 : cX3_votes.data.toList.drop 24 = dktX3_votes_1 := dk_seg dksX3_votes_0 24 rfl rfl
theorem dksX3_votes_2 : cX3_votes.data.toList.drop 48 = dktX3_votes_2 := dk_seg dksX3_votes_1 24 rfl rfl
theorem dksX3_votes_3 : cX3_votes.data.toList.drop 72 = dktX3_votes_3 := dk_seg dksX3_votes_2 24 rfl rfl
theorem dksX3_votes_4 : cX3_votes.data.toList.drop 96 = dktX3_votes_4 := dk_seg dksX3_votes_3 24 rfl rfl
theorem dX3_votes_0 : decode cX3_votes 0 = .ok (.aload_n 0, 1) := dk_42 (dk_at dksX3_votes_0 0 rfl rfl)
theorem dX3_votes_1 : decode cX3_votes 1 = .ok (.getfield 17, 3) := dk_180 0 17 (dk_at dksX3_votes_0 1 rfl rfl)
theorem dX3_votes_4 : decode cX3_votes 4 = .ok (.iload_n 1, 1) := dk_27 (dk_at dksX3_votes_0 4 rfl rfl)
theorem dX3_votes_5 : decode cX3_votes 5 = .ok (.aaload, 1) := dk_50 (dk_at dksX3_votes_0 5 rfl rfl)
theorem dX3_votes_6 : decode cX3_votes 6 = .ok (.astore_n 2, 1) := dk_77 (dk_at dksX3_votes_0 6 rfl rfl)
theorem dX3_votes_7 : decode cX3_votes 7 = .ok (.aload_n 0, 1) := dk_42 (dk_at dksX3_votes_0 7 rfl rfl)
theorem dX3_votes_8 : decode cX3_votes 8 = .ok (.getfield 42, 3) := dk_180 0 42 (dk_at dksX3_votes_0 8 rfl rfl)
theorem dX3_votes_11 : decode cX3_votes 11 = .ok (.iconst 3, 1) := dk_6 (dk_at dksX3_votes_0 11 rfl rfl)
theorem dX3_votes_12 : decode cX3_votes 12 = .ok (.iaload, 1) := dk_46 (dk_at dksX3_votes_0 12 rfl rfl)
theorem dX3_votes_13 : decode cX3_votes 13 = .ok (.aload_n 2, 1) := dk_44 (dk_at dksX3_votes_0 13 rfl rfl)
theorem dX3_votes_14 : decode cX3_votes 14 = .ok (.getfield 92, 3) := dk_180 0 92 (dk_at dksX3_votes_0 14 rfl rfl)
theorem dX3_votes_17 : decode cX3_votes 17 = .ok (.if_icmp .ne 48, 3) := dk_160 0 48 (dk_at dksX3_votes_0 17 rfl rfl)
theorem dX3_votes_20 : decode cX3_votes 20 = .ok (.aload_n 2, 1) := dk_44 (dk_at dksX3_votes_0 20 rfl rfl)
theorem dX3_votes_21 : decode cX3_votes 21 = .ok (.getfield 208, 3) := dk_180 0 208 (dk_at dksX3_votes_0 21 rfl rfl)
theorem dX3_votes_24 : decode cX3_votes 24 = .ok (.iconst (-1), 1) := dk_2 (dk_at dksX3_votes_1 0 rfl rfl)
theorem dX3_votes_25 : decode cX3_votes 25 = .ok (.if_icmp .eq 16, 3) := dk_159 0 16 (dk_at dksX3_votes_1 1 rfl rfl)
theorem dX3_votes_28 : decode cX3_votes 28 = .ok (.aload_n 2, 1) := dk_44 (dk_at dksX3_votes_1 4 rfl rfl)
theorem dX3_votes_29 : decode cX3_votes 29 = .ok (.getfield 208, 3) := dk_180 0 208 (dk_at dksX3_votes_1 5 rfl rfl)
theorem dX3_votes_32 : decode cX3_votes 32 = .ok (.aload_n 0, 1) := dk_42 (dk_at dksX3_votes_1 8 rfl rfl)
theorem dX3_votes_33 : decode cX3_votes 33 = .ok (.getfield 42, 3) := dk_180 0 42 (dk_at dksX3_votes_1 9 rfl rfl)
theorem dX3_votes_36 : decode cX3_votes 36 = .ok (.iconst 0, 1) := dk_3 (dk_at dksX3_votes_1 12 rfl rfl)
theorem dX3_votes_37 : decode cX3_votes 37 = .ok (.iaload, 1) := dk_46 (dk_at dksX3_votes_1 13 rfl rfl)
theorem dX3_votes_38 : decode cX3_votes 38 = .ok (.if_icmp .ne 27, 3) := dk_160 0 27 (dk_at dksX3_votes_1 14 rfl rfl)
theorem dX3_votes_41 : decode cX3_votes 41 = .ok (.aload_n 2, 1) := dk_44 (dk_at dksX3_votes_1 17 rfl rfl)
theorem dX3_votes_42 : decode cX3_votes 42 = .ok (.aload_n 0, 1) := dk_42 (dk_at dksX3_votes_1 18 rfl rfl)
theorem dX3_votes_43 : decode cX3_votes 43 = .ok (.getfield 42, 3) := dk_180 0 42 (dk_at dksX3_votes_1 19 rfl rfl)
theorem dX3_votes_46 : decode cX3_votes 46 = .ok (.bipush 6, 2) := dk_16 6 (dk_at dksX3_votes_1 22 rfl rfl)
theorem dX3_votes_48 : decode cX3_votes 48 = .ok (.iaload, 1) := dk_46 (dk_at dksX3_votes_2 0 rfl rfl)
theorem dX3_votes_49 : decode cX3_votes 49 = .ok (.aload_n 0, 1) := dk_42 (dk_at dksX3_votes_2 1 rfl rfl)
theorem dX3_votes_50 : decode cX3_votes 50 = .ok (.getfield 42, 3) := dk_180 0 42 (dk_at dksX3_votes_2 2 rfl rfl)
theorem dX3_votes_53 : decode cX3_votes 53 = .ok (.iconst 5, 1) := dk_8 (dk_at dksX3_votes_2 5 rfl rfl)
theorem dX3_votes_54 : decode cX3_votes 54 = .ok (.iaload, 1) := dk_46 (dk_at dksX3_votes_2 6 rfl rfl)
theorem dX3_votes_55 : decode cX3_votes 55 = .ok (.invokevirtual 240, 3) := dk_182 0 240 (dk_at dksX3_votes_2 7 rfl rfl)
theorem dX3_votes_58 : decode cX3_votes 58 = .ok (.ifCond .eq 7, 3) := dk_153 0 7 (dk_at dksX3_votes_2 10 rfl rfl)
theorem dX3_votes_61 : decode cX3_votes 61 = .ok (.iconst 1, 1) := dk_4 (dk_at dksX3_votes_2 13 rfl rfl)
theorem dX3_votes_62 : decode cX3_votes 62 = .ok (.goto 4, 3) := dk_167 0 4 (dk_at dksX3_votes_2 14 rfl rfl)
theorem dX3_votes_65 : decode cX3_votes 65 = .ok (.iconst 0, 1) := dk_3 (dk_at dksX3_votes_2 17 rfl rfl)
theorem dX3_votes_66 : decode cX3_votes 66 = .ok (.istore_n 3, 1) := dk_62 (dk_at dksX3_votes_2 18 rfl rfl)
theorem dX3_votes_67 : decode cX3_votes 67 = .ok (.iload_n 3, 1) := dk_29 (dk_at dksX3_votes_2 19 rfl rfl)
theorem dX3_votes_68 : decode cX3_votes 68 = .ok (.ifCond .eq 18, 3) := dk_153 0 18 (dk_at dksX3_votes_2 20 rfl rfl)
theorem dX3_votes_71 : decode cX3_votes 71 = .ok (.aload_n 2, 1) := dk_44 (dk_at dksX3_votes_2 23 rfl rfl)
theorem dX3_votes_72 : decode cX3_votes 72 = .ok (.aload_n 0, 1) := dk_42 (dk_at dksX3_votes_3 0 rfl rfl)
theorem dX3_votes_73 : decode cX3_votes 73 = .ok (.getfield 42, 3) := dk_180 0 42 (dk_at dksX3_votes_3 1 rfl rfl)
theorem dX3_votes_76 : decode cX3_votes 76 = .ok (.iconst 0, 1) := dk_3 (dk_at dksX3_votes_3 4 rfl rfl)
theorem dX3_votes_77 : decode cX3_votes 77 = .ok (.iaload, 1) := dk_46 (dk_at dksX3_votes_3 5 rfl rfl)
theorem dX3_votes_78 : decode cX3_votes 78 = .ok (.putfield 208, 3) := dk_181 0 208 (dk_at dksX3_votes_3 6 rfl rfl)
theorem dX3_votes_81 : decode cX3_votes 81 = .ok (.aload_n 0, 1) := dk_42 (dk_at dksX3_votes_3 9 rfl rfl)
theorem dX3_votes_82 : decode cX3_votes 82 = .ok (.iload_n 1, 1) := dk_27 (dk_at dksX3_votes_3 10 rfl rfl)
theorem dX3_votes_83 : decode cX3_votes 83 = .ok (.invokevirtual 80, 3) := dk_182 0 80 (dk_at dksX3_votes_3 11 rfl rfl)
theorem dX3_votes_86 : decode cX3_votes 86 = .ok (.aload_n 0, 1) := dk_42 (dk_at dksX3_votes_3 14 rfl rfl)
theorem dX3_votes_87 : decode cX3_votes 87 = .ok (.iload_n 1, 1) := dk_27 (dk_at dksX3_votes_3 15 rfl rfl)
theorem dX3_votes_88 : decode cX3_votes 88 = .ok (.aload_n 0, 1) := dk_42 (dk_at dksX3_votes_3 16 rfl rfl)
theorem dX3_votes_89 : decode cX3_votes 89 = .ok (.getfield 42, 3) := dk_180 0 42 (dk_at dksX3_votes_3 17 rfl rfl)
theorem dX3_votes_92 : decode cX3_votes 92 = .ok (.iconst 0, 1) := dk_3 (dk_at dksX3_votes_3 20 rfl rfl)
theorem dX3_votes_93 : decode cX3_votes 93 = .ok (.iaload, 1) := dk_46 (dk_at dksX3_votes_3 21 rfl rfl)
theorem dX3_votes_94 : decode cX3_votes 94 = .ok (.iconst 1, 1) := dk_4 (dk_at dksX3_votes_3 22 rfl rfl)
theorem dX3_votes_95 : decode cX3_votes 95 = .ok (.iload_n 3, 1) := dk_29 (dk_at dksX3_votes_3 23 rfl rfl)
theorem dX3_votes_96 : decode cX3_votes 96 = .ok (.ifCond .eq 7, 3) := dk_153 0 7 (dk_at dksX3_votes_4 0 rfl rfl)
theorem dX3_votes_99 : decode cX3_votes 99 = .ok (.iconst 1, 1) := dk_4 (dk_at dksX3_votes_4 3 rfl rfl)
theorem dX3_votes_100 : decode cX3_votes 100 = .ok (.goto 4, 3) := dk_167 0 4 (dk_at dksX3_votes_4 4 rfl rfl)
theorem dX3_votes_103 : decode cX3_votes 103 = .ok (.iconst 0, 1) := dk_3 (dk_at dksX3_votes_4 7 rfl rfl)
theorem dX3_votes_104 : decode cX3_votes 104 = .ok (.iconst 0, 1) := dk_3 (dk_at dksX3_votes_4 8 rfl rfl)
theorem dX3_votes_105 : decode cX3_votes 105 = .ok (.iconst 0, 1) := dk_3 (dk_at dksX3_votes_4 9 rfl rfl)
theorem dX3_votes_106 : decode cX3_votes 106 = .ok (.invokevirtual 243, 3) := dk_182 0 243 (dk_at dksX3_votes_4 10 rfl rfl)
theorem dX3_votes_109 : decode cX3_votes 109 = .ok (.return_, 1) := dk_177 (dk_at dksX3_votes_4 13 rfl rfl)
abbrev cX3_answers : ByteArray := prog_3_method_10_code
def yX3_answers : MethodName := ⟨RX3, "answers", "(IIIIII)V"⟩
def dkwX3_answers_0 : List UInt8 := [42, 27, 28, 29, 21, 4, 21, 5, 21, 6, 3, 182, 0, 138, 87, 42, 182, 0, 142, 177]
abbrev dktX3_answers_0 : List UInt8 := dkwX3_answers_0 ++ []
theorem dksX3_answers_0 : cX3_answers.data.toList.drop 0 = dktX3_answers_0 := by decide +kernel
theorem dX3_answers_0 : decode cX3_answers 0 = .ok (.aload_n 0, 1) := dk_42 (dk_at dksX3_answers_0 0 rfl rfl)
theorem dX3_answers_1 : decode cX3_answers 1 = .ok (.iload_n 1, 1) := dk_27 (dk_at dksX3_answers_0 1 rfl rfl)
theorem dX3_answers_2 : decode cX3_answers 2 = .ok (.iload_n 2, 1) := dk_28 (dk_at dksX3_answers_0 2 rfl rfl)
theorem dX3_answers_3 : decode cX3_answers 3 = .ok (.iload_n 3, 1) := dk_29 (dk_at dksX3_answers_0 3 rfl rfl)
theorem dX3_answers_4 : decode cX3_answers 4 = .ok (.iload 4, 2) := dk_21 4 (dk_at dksX3_answers_0 4 rfl rfl)
theorem dX3_answers_6 : decode cX3_answers 6 = .ok (.iload 5, 2) := dk_21 5 (dk_at dksX3_answers_0 6 rfl rfl)
theorem dX3_answers_8 : decode cX3_answers 8 = .ok (.iload 6, 2) := dk_21 6 (dk_at dksX3_answers_0 8 rfl rfl)
theorem dX3_answers_10 : decode cX3_answers 10 = .ok (.iconst 0, 1) := dk_3 (dk_at dksX3_answers_0 10 rfl rfl)
theorem dX3_answers_11 : decode cX3_answers 11 = .ok (.invokevirtual 138, 3) := dk_182 0 138 (dk_at dksX3_answers_0 11 rfl rfl)
theorem dX3_answers_14 : decode cX3_answers 14 = .ok (.pop, 1) := dk_87 (dk_at dksX3_answers_0 14 rfl rfl)
theorem dX3_answers_15 : decode cX3_answers 15 = .ok (.aload_n 0, 1) := dk_42 (dk_at dksX3_answers_0 15 rfl rfl)
theorem dX3_answers_16 : decode cX3_answers 16 = .ok (.invokevirtual 142, 3) := dk_182 0 142 (dk_at dksX3_answers_0 16 rfl rfl)
theorem dX3_answers_19 : decode cX3_answers 19 = .ok (.return_, 1) := dk_177 (dk_at dksX3_answers_0 19 rfl rfl)
abbrev cX3_countsVote : ByteArray := prog_3_method_19_code
def yX3_countsVote : MethodName := ⟨RX3, "countsVote", "(I)V"⟩
def dkwX3_countsVote_3 : List UInt8 := [182, 0, 218, 177]
abbrev dktX3_countsVote_3 : List UInt8 := dkwX3_countsVote_3 ++ []
def dkwX3_countsVote_2 : List UInt8 := [180, 0, 42, 3, 46, 120, 128, 181, 0, 211, 44, 44, 180, 0, 211, 182, 0, 214, 153, 0, 8, 42, 27]
abbrev dktX3_countsVote_2 : List UInt8 := dkwX3_countsVote_2 ++ dktX3_countsVote_3
def dkwX3_countsVote_1 : List UInt8 := [180, 0, 92, 160, 0, 12, 42, 180, 0, 42, 8, 46, 154, 0, 4, 177, 44, 89, 180, 0, 211, 4, 42]
abbrev dktX3_countsVote_1 : List UInt8 := dkwX3_countsVote_1 ++ dktX3_countsVote_2
def dkwX3_countsVote_0 : List UInt8 := [42, 180, 0, 17, 27, 50, 77, 44, 180, 0, 199, 4, 160, 0, 25, 42, 180, 0, 42, 6, 46, 44]
abbrev dktX3_countsVote_0 : List UInt8 := dkwX3_countsVote_0 ++ dktX3_countsVote_1
theorem dksX3_countsVote_0 : cX3_countsVote.data.toList.drop 0 = dktX3_countsVote_0 := by decide +kernel
theorem dksX3_countsVote_1 : cX3_countsVote.data.toList.drop 22 = dktX3_countsVote_1 := dk_seg dksX3_countsVote_0 22 rfl rfl
theorem dksX3_countsVote_2 : cX3_countsVote.data.toList.drop 45 = dktX3_countsVote_2 := dk_seg dksX3_countsVote_1 23 rfl rfl
theorem dksX3_countsVote_3 : cX3_countsVote.data.toList.drop 68 = dktX3_countsVote_3 := dk_seg dksX3_countsVote_2 23 rfl rfl
theorem dX3_countsVote_0 : decode cX3_countsVote 0 = .ok (.aload_n 0, 1) := dk_42 (dk_at dksX3_countsVote_0 0 rfl rfl)
theorem dX3_countsVote_1 : decode cX3_countsVote 1 = .ok (.getfield 17, 3) := dk_180 0 17 (dk_at dksX3_countsVote_0 1 rfl rfl)
theorem dX3_countsVote_4 : decode cX3_countsVote 4 = .ok (.iload_n 1, 1) := dk_27 (dk_at dksX3_countsVote_0 4 rfl rfl)
theorem dX3_countsVote_5 : decode cX3_countsVote 5 = .ok (.aaload, 1) := dk_50 (dk_at dksX3_countsVote_0 5 rfl rfl)
theorem dX3_countsVote_6 : decode cX3_countsVote 6 = .ok (.astore_n 2, 1) := dk_77 (dk_at dksX3_countsVote_0 6 rfl rfl)
theorem dX3_countsVote_7 : decode cX3_countsVote 7 = .ok (.aload_n 2, 1) := dk_44 (dk_at dksX3_countsVote_0 7 rfl rfl)
theorem dX3_countsVote_8 : decode cX3_countsVote 8 = .ok (.getfield 199, 3) := dk_180 0 199 (dk_at dksX3_countsVote_0 8 rfl rfl)
theorem dX3_countsVote_11 : decode cX3_countsVote 11 = .ok (.iconst 1, 1) := dk_4 (dk_at dksX3_countsVote_0 11 rfl rfl)
theorem dX3_countsVote_12 : decode cX3_countsVote 12 = .ok (.if_icmp .ne 25, 3) := dk_160 0 25 (dk_at dksX3_countsVote_0 12 rfl rfl)
theorem dX3_countsVote_15 : decode cX3_countsVote 15 = .ok (.aload_n 0, 1) := dk_42 (dk_at dksX3_countsVote_0 15 rfl rfl)
theorem dX3_countsVote_16 : decode cX3_countsVote 16 = .ok (.getfield 42, 3) := dk_180 0 42 (dk_at dksX3_countsVote_0 16 rfl rfl)
theorem dX3_countsVote_19 : decode cX3_countsVote 19 = .ok (.iconst 3, 1) := dk_6 (dk_at dksX3_countsVote_0 19 rfl rfl)
theorem dX3_countsVote_20 : decode cX3_countsVote 20 = .ok (.iaload, 1) := dk_46 (dk_at dksX3_countsVote_0 20 rfl rfl)
theorem dX3_countsVote_21 : decode cX3_countsVote 21 = .ok (.aload_n 2, 1) := dk_44 (dk_at dksX3_countsVote_0 21 rfl rfl)
theorem dX3_countsVote_22 : decode cX3_countsVote 22 = .ok (.getfield 92, 3) := dk_180 0 92 (dk_at dksX3_countsVote_1 0 rfl rfl)
theorem dX3_countsVote_25 : decode cX3_countsVote 25 = .ok (.if_icmp .ne 12, 3) := dk_160 0 12 (dk_at dksX3_countsVote_1 3 rfl rfl)
theorem dX3_countsVote_28 : decode cX3_countsVote 28 = .ok (.aload_n 0, 1) := dk_42 (dk_at dksX3_countsVote_1 6 rfl rfl)
theorem dX3_countsVote_29 : decode cX3_countsVote 29 = .ok (.getfield 42, 3) := dk_180 0 42 (dk_at dksX3_countsVote_1 7 rfl rfl)
theorem dX3_countsVote_32 : decode cX3_countsVote 32 = .ok (.iconst 5, 1) := dk_8 (dk_at dksX3_countsVote_1 10 rfl rfl)
theorem dX3_countsVote_33 : decode cX3_countsVote 33 = .ok (.iaload, 1) := dk_46 (dk_at dksX3_countsVote_1 11 rfl rfl)
theorem dX3_countsVote_34 : decode cX3_countsVote 34 = .ok (.ifCond .ne 4, 3) := dk_154 0 4 (dk_at dksX3_countsVote_1 12 rfl rfl)
theorem dX3_countsVote_37 : decode cX3_countsVote 37 = .ok (.return_, 1) := dk_177 (dk_at dksX3_countsVote_1 15 rfl rfl)
theorem dX3_countsVote_38 : decode cX3_countsVote 38 = .ok (.aload_n 2, 1) := dk_44 (dk_at dksX3_countsVote_1 16 rfl rfl)
theorem dX3_countsVote_39 : decode cX3_countsVote 39 = .ok (.dup, 1) := dk_89 (dk_at dksX3_countsVote_1 17 rfl rfl)
theorem dX3_countsVote_40 : decode cX3_countsVote 40 = .ok (.getfield 211, 3) := dk_180 0 211 (dk_at dksX3_countsVote_1 18 rfl rfl)
theorem dX3_countsVote_43 : decode cX3_countsVote 43 = .ok (.iconst 1, 1) := dk_4 (dk_at dksX3_countsVote_1 21 rfl rfl)
theorem dX3_countsVote_44 : decode cX3_countsVote 44 = .ok (.aload_n 0, 1) := dk_42 (dk_at dksX3_countsVote_1 22 rfl rfl)
theorem dX3_countsVote_45 : decode cX3_countsVote 45 = .ok (.getfield 42, 3) := dk_180 0 42 (dk_at dksX3_countsVote_2 0 rfl rfl)
theorem dX3_countsVote_48 : decode cX3_countsVote 48 = .ok (.iconst 0, 1) := dk_3 (dk_at dksX3_countsVote_2 3 rfl rfl)
theorem dX3_countsVote_49 : decode cX3_countsVote 49 = .ok (.iaload, 1) := dk_46 (dk_at dksX3_countsVote_2 4 rfl rfl)
theorem dX3_countsVote_50 : decode cX3_countsVote 50 = .ok (.ishl, 1) := dk_120 (dk_at dksX3_countsVote_2 5 rfl rfl)
theorem dX3_countsVote_51 : decode cX3_countsVote 51 = .ok (.ior, 1) := dk_128 (dk_at dksX3_countsVote_2 6 rfl rfl)
theorem dX3_countsVote_52 : decode cX3_countsVote 52 = .ok (.putfield 211, 3) := dk_181 0 211 (dk_at dksX3_countsVote_2 7 rfl rfl)
theorem dX3_countsVote_55 : decode cX3_countsVote 55 = .ok (.aload_n 2, 1) := dk_44 (dk_at dksX3_countsVote_2 10 rfl rfl)
theorem dX3_countsVote_56 : decode cX3_countsVote 56 = .ok (.aload_n 2, 1) := dk_44 (dk_at dksX3_countsVote_2 11 rfl rfl)
theorem dX3_countsVote_57 : decode cX3_countsVote 57 = .ok (.getfield 211, 3) := dk_180 0 211 (dk_at dksX3_countsVote_2 12 rfl rfl)
theorem dX3_countsVote_60 : decode cX3_countsVote 60 = .ok (.invokevirtual 214, 3) := dk_182 0 214 (dk_at dksX3_countsVote_2 15 rfl rfl)
theorem dX3_countsVote_63 : decode cX3_countsVote 63 = .ok (.ifCond .eq 8, 3) := dk_153 0 8 (dk_at dksX3_countsVote_2 18 rfl rfl)
theorem dX3_countsVote_66 : decode cX3_countsVote 66 = .ok (.aload_n 0, 1) := dk_42 (dk_at dksX3_countsVote_2 21 rfl rfl)
theorem dX3_countsVote_67 : decode cX3_countsVote 67 = .ok (.iload_n 1, 1) := dk_27 (dk_at dksX3_countsVote_2 22 rfl rfl)
theorem dX3_countsVote_68 : decode cX3_countsVote 68 = .ok (.invokevirtual 218, 3) := dk_182 0 218 (dk_at dksX3_countsVote_3 0 rfl rfl)
theorem dX3_countsVote_71 : decode cX3_countsVote 71 = .ok (.return_, 1) := dk_177 (dk_at dksX3_countsVote_3 3 rfl rfl)
abbrev cX3_leads : ByteArray := prog_3_method_17_code
def yX3_leads : MethodName := ⟨RX3, "leads", "(I)V"⟩
def dkwX3_leads_7 : List UInt8 := [42, 27, 182, 0, 234, 42, 27, 182, 0, 237, 177]
abbrev dktX3_leads_7 : List UInt8 := dkwX3_leads_7 ++ []
def dkwX3_leads_6 : List UInt8 := [46, 79, 44, 44, 180, 0, 92, 5, 3, 3, 182, 0, 230, 87, 44, 180, 0, 221, 27, 44, 182, 0, 173, 79]
abbrev dktX3_leads_6 : List UInt8 := dkwX3_leads_6 ++ dktX3_leads_7
def dkwX3_leads_5 : List UInt8 := [180, 0, 36, 44, 180, 0, 92, 46, 2, 160, 0, 7, 27, 167, 0, 12, 42, 180, 0, 36, 44, 180, 0, 92]
abbrev dktX3_leads_5 : List UInt8 := dkwX3_leads_5 ++ dktX3_leads_6
def dkwX3_leads_4 : List UInt8 := [159, 0, 13, 42, 89, 180, 0, 70, 4, 96, 181, 0, 70, 42, 180, 0, 36, 44, 180, 0, 92, 42]
abbrev dktX3_leads_4 : List UInt8 := dkwX3_leads_4 ++ dktX3_leads_5
def dkwX3_leads_3 : List UInt8 := [180, 0, 36, 44, 180, 0, 92, 46, 2, 159, 0, 26, 42, 180, 0, 36, 44, 180, 0, 92, 46, 27]
abbrev dktX3_leads_3 : List UInt8 := dkwX3_leads_3 ++ dktX3_leads_4
def dkwX3_leads_2 : List UInt8 := [180, 0, 224, 29, 3, 79, 132, 3, 1, 167, 255, 221, 44, 3, 181, 0, 227, 44, 4, 181, 0, 154, 42]
abbrev dktX3_leads_2 : List UInt8 := dkwX3_leads_2 ++ dktX3_leads_3
def dkwX3_leads_1 : List UInt8 := [162, 0, 35, 44, 180, 0, 145, 29, 44, 182, 0, 173, 4, 96, 79, 44, 180, 0, 221, 29, 3, 79, 44]
abbrev dktX3_leads_1 : List UInt8 := dkwX3_leads_1 ++ dktX3_leads_2
def dkwX3_leads_0 : List UInt8 := [42, 180, 0, 17, 27, 50, 77, 44, 5, 181, 0, 199, 44, 27, 181, 0, 205, 3, 62, 29, 16, 7]
abbrev dktX3_leads_0 : List UInt8 := dkwX3_leads_0 ++ dktX3_leads_1
theorem dksX3_leads_0 : cX3_leads.data.toList.drop 0 = dktX3_leads_0 := by decide +kernel
theorem dksX3_leads_1 : cX3_leads.data.toList.drop 22 = dktX3_leads_1 := dk_seg dksX3_leads_0 22 rfl rfl
theorem dksX3_leads_2 : cX3_leads.data.toList.drop 45 = dktX3_leads_2 := dk_seg dksX3_leads_1 23 rfl rfl
theorem dksX3_leads_3 : cX3_leads.data.toList.drop 68 = dktX3_leads_3 := dk_seg dksX3_leads_2 23 rfl rfl
theorem dksX3_leads_4 : cX3_leads.data.toList.drop 90 = dktX3_leads_4 := dk_seg dksX3_leads_3 22 rfl rfl
theorem dksX3_leads_5 : cX3_leads.data.toList.drop 112 = dktX3_leads_5 := dk_seg dksX3_leads_4 22 rfl rfl
theorem dksX3_leads_6 : cX3_leads.data.toList.drop 136 = dktX3_leads_6 := dk_seg dksX3_leads_5 24 rfl rfl
theorem dksX3_leads_7 : cX3_leads.data.toList.drop 160 = dktX3_leads_7 := dk_seg dksX3_leads_6 24 rfl rfl
theorem dX3_leads_0 : decode cX3_leads 0 = .ok (.aload_n 0, 1) := dk_42 (dk_at dksX3_leads_0 0 rfl rfl)
theorem dX3_leads_1 : decode cX3_leads 1 = .ok (.getfield 17, 3) := dk_180 0 17 (dk_at dksX3_leads_0 1 rfl rfl)
theorem dX3_leads_4 : decode cX3_leads 4 = .ok (.iload_n 1, 1) := dk_27 (dk_at dksX3_leads_0 4 rfl rfl)
theorem dX3_leads_5 : decode cX3_leads 5 = .ok (.aaload, 1) := dk_50 (dk_at dksX3_leads_0 5 rfl rfl)
theorem dX3_leads_6 : decode cX3_leads 6 = .ok (.astore_n 2, 1) := dk_77 (dk_at dksX3_leads_0 6 rfl rfl)
theorem dX3_leads_7 : decode cX3_leads 7 = .ok (.aload_n 2, 1) := dk_44 (dk_at dksX3_leads_0 7 rfl rfl)
theorem dX3_leads_8 : decode cX3_leads 8 = .ok (.iconst 2, 1) := dk_5 (dk_at dksX3_leads_0 8 rfl rfl)
theorem dX3_leads_9 : decode cX3_leads 9 = .ok (.putfield 199, 3) := dk_181 0 199 (dk_at dksX3_leads_0 9 rfl rfl)
theorem dX3_leads_12 : decode cX3_leads 12 = .ok (.aload_n 2, 1) := dk_44 (dk_at dksX3_leads_0 12 rfl rfl)
theorem dX3_leads_13 : decode cX3_leads 13 = .ok (.iload_n 1, 1) := dk_27 (dk_at dksX3_leads_0 13 rfl rfl)
theorem dX3_leads_14 : decode cX3_leads 14 = .ok (.putfield 205, 3) := dk_181 0 205 (dk_at dksX3_leads_0 14 rfl rfl)
theorem dX3_leads_17 : decode cX3_leads 17 = .ok (.iconst 0, 1) := dk_3 (dk_at dksX3_leads_0 17 rfl rfl)
theorem dX3_leads_18 : decode cX3_leads 18 = .ok (.istore_n 3, 1) := dk_62 (dk_at dksX3_leads_0 18 rfl rfl)
theorem dX3_leads_19 : decode cX3_leads 19 = .ok (.iload_n 3, 1) := dk_29 (dk_at dksX3_leads_0 19 rfl rfl)
theorem dX3_leads_20 : decode cX3_leads 20 = .ok (.bipush 7, 2) := dk_16 7 (dk_at dksX3_leads_0 20 rfl rfl)
theorem dX3_leads_22 : decode cX3_leads 22 = .ok (.if_icmp .ge 35, 3) := dk_162 0 35 (dk_at dksX3_leads_1 0 rfl rfl)
theorem dX3_leads_25 : decode cX3_leads 25 = .ok (.aload_n 2, 1) := dk_44 (dk_at dksX3_leads_1 3 rfl rfl)
theorem dX3_leads_26 : decode cX3_leads 26 = .ok (.getfield 145, 3) := dk_180 0 145 (dk_at dksX3_leads_1 4 rfl rfl)
theorem dX3_leads_29 : decode cX3_leads 29 = .ok (.iload_n 3, 1) := dk_29 (dk_at dksX3_leads_1 7 rfl rfl)
theorem dX3_leads_30 : decode cX3_leads 30 = .ok (.aload_n 2, 1) := dk_44 (dk_at dksX3_leads_1 8 rfl rfl)
theorem dX3_leads_31 : decode cX3_leads 31 = .ok (.invokevirtual 173, 3) := dk_182 0 173 (dk_at dksX3_leads_1 9 rfl rfl)
theorem dX3_leads_34 : decode cX3_leads 34 = .ok (.iconst 1, 1) := dk_4 (dk_at dksX3_leads_1 12 rfl rfl)
theorem dX3_leads_35 : decode cX3_leads 35 = .ok (.iadd, 1) := dk_96 (dk_at dksX3_leads_1 13 rfl rfl)
theorem dX3_leads_36 : decode cX3_leads 36 = .ok (.iastore, 1) := dk_79 (dk_at dksX3_leads_1 14 rfl rfl)
theorem dX3_leads_37 : decode cX3_leads 37 = .ok (.aload_n 2, 1) := dk_44 (dk_at dksX3_leads_1 15 rfl rfl)
theorem dX3_leads_38 : decode cX3_leads 38 = .ok (.getfield 221, 3) := dk_180 0 221 (dk_at dksX3_leads_1 16 rfl rfl)
theorem dX3_leads_41 : decode cX3_leads 41 = .ok (.iload_n 3, 1) := dk_29 (dk_at dksX3_leads_1 19 rfl rfl)
theorem dX3_leads_42 : decode cX3_leads 42 = .ok (.iconst 0, 1) := dk_3 (dk_at dksX3_leads_1 20 rfl rfl)
theorem dX3_leads_43 : decode cX3_leads 43 = .ok (.iastore, 1) := dk_79 (dk_at dksX3_leads_1 21 rfl rfl)
theorem dX3_leads_44 : decode cX3_leads 44 = .ok (.aload_n 2, 1) := dk_44 (dk_at dksX3_leads_1 22 rfl rfl)
theorem dX3_leads_45 : decode cX3_leads 45 = .ok (.getfield 224, 3) := dk_180 0 224 (dk_at dksX3_leads_2 0 rfl rfl)
theorem dX3_leads_48 : decode cX3_leads 48 = .ok (.iload_n 3, 1) := dk_29 (dk_at dksX3_leads_2 3 rfl rfl)
theorem dX3_leads_49 : decode cX3_leads 49 = .ok (.iconst 0, 1) := dk_3 (dk_at dksX3_leads_2 4 rfl rfl)
theorem dX3_leads_50 : decode cX3_leads 50 = .ok (.iastore, 1) := dk_79 (dk_at dksX3_leads_2 5 rfl rfl)
theorem dX3_leads_51 : decode cX3_leads 51 = .ok (.iinc 3 1, 3) := dk_132 3 1 (dk_at dksX3_leads_2 6 rfl rfl)
theorem dX3_leads_54 : decode cX3_leads 54 = .ok (.goto (-35), 3) := dk_167 255 221 (dk_at dksX3_leads_2 9 rfl rfl)
theorem dX3_leads_57 : decode cX3_leads 57 = .ok (.aload_n 2, 1) := dk_44 (dk_at dksX3_leads_2 12 rfl rfl)
theorem dX3_leads_58 : decode cX3_leads 58 = .ok (.iconst 0, 1) := dk_3 (dk_at dksX3_leads_2 13 rfl rfl)
theorem dX3_leads_59 : decode cX3_leads 59 = .ok (.putfield 227, 3) := dk_181 0 227 (dk_at dksX3_leads_2 14 rfl rfl)
theorem dX3_leads_62 : decode cX3_leads 62 = .ok (.aload_n 2, 1) := dk_44 (dk_at dksX3_leads_2 17 rfl rfl)
theorem dX3_leads_63 : decode cX3_leads 63 = .ok (.iconst 1, 1) := dk_4 (dk_at dksX3_leads_2 18 rfl rfl)
theorem dX3_leads_64 : decode cX3_leads 64 = .ok (.putfield 154, 3) := dk_181 0 154 (dk_at dksX3_leads_2 19 rfl rfl)
theorem dX3_leads_67 : decode cX3_leads 67 = .ok (.aload_n 0, 1) := dk_42 (dk_at dksX3_leads_2 22 rfl rfl)
theorem dX3_leads_68 : decode cX3_leads 68 = .ok (.getfield 36, 3) := dk_180 0 36 (dk_at dksX3_leads_3 0 rfl rfl)
theorem dX3_leads_71 : decode cX3_leads 71 = .ok (.aload_n 2, 1) := dk_44 (dk_at dksX3_leads_3 3 rfl rfl)
theorem dX3_leads_72 : decode cX3_leads 72 = .ok (.getfield 92, 3) := dk_180 0 92 (dk_at dksX3_leads_3 4 rfl rfl)
theorem dX3_leads_75 : decode cX3_leads 75 = .ok (.iaload, 1) := dk_46 (dk_at dksX3_leads_3 7 rfl rfl)
theorem dX3_leads_76 : decode cX3_leads 76 = .ok (.iconst (-1), 1) := dk_2 (dk_at dksX3_leads_3 8 rfl rfl)
theorem dX3_leads_77 : decode cX3_leads 77 = .ok (.if_icmp .eq 26, 3) := dk_159 0 26 (dk_at dksX3_leads_3 9 rfl rfl)
theorem dX3_leads_80 : decode cX3_leads 80 = .ok (.aload_n 0, 1) := dk_42 (dk_at dksX3_leads_3 12 rfl rfl)
theorem dX3_leads_81 : decode cX3_leads 81 = .ok (.getfield 36, 3) := dk_180 0 36 (dk_at dksX3_leads_3 13 rfl rfl)
theorem dX3_leads_84 : decode cX3_leads 84 = .ok (.aload_n 2, 1) := dk_44 (dk_at dksX3_leads_3 16 rfl rfl)
theorem dX3_leads_85 : decode cX3_leads 85 = .ok (.getfield 92, 3) := dk_180 0 92 (dk_at dksX3_leads_3 17 rfl rfl)
theorem dX3_leads_88 : decode cX3_leads 88 = .ok (.iaload, 1) := dk_46 (dk_at dksX3_leads_3 20 rfl rfl)
theorem dX3_leads_89 : decode cX3_leads 89 = .ok (.iload_n 1, 1) := dk_27 (dk_at dksX3_leads_3 21 rfl rfl)
theorem dX3_leads_90 : decode cX3_leads 90 = .ok (.if_icmp .eq 13, 3) := dk_159 0 13 (dk_at dksX3_leads_4 0 rfl rfl)
theorem dX3_leads_93 : decode cX3_leads 93 = .ok (.aload_n 0, 1) := dk_42 (dk_at dksX3_leads_4 3 rfl rfl)
theorem dX3_leads_94 : decode cX3_leads 94 = .ok (.dup, 1) := dk_89 (dk_at dksX3_leads_4 4 rfl rfl)
theorem dX3_leads_95 : decode cX3_leads 95 = .ok (.getfield 70, 3) := dk_180 0 70 (dk_at dksX3_leads_4 5 rfl rfl)
theorem dX3_leads_98 : decode cX3_leads 98 = .ok (.iconst 1, 1) := dk_4 (dk_at dksX3_leads_4 8 rfl rfl)
theorem dX3_leads_99 : decode cX3_leads 99 = .ok (.iadd, 1) := dk_96 (dk_at dksX3_leads_4 9 rfl rfl)
theorem dX3_leads_100 : decode cX3_leads 100 = .ok (.putfield 70, 3) := dk_181 0 70 (dk_at dksX3_leads_4 10 rfl rfl)
theorem dX3_leads_103 : decode cX3_leads 103 = .ok (.aload_n 0, 1) := dk_42 (dk_at dksX3_leads_4 13 rfl rfl)
theorem dX3_leads_104 : decode cX3_leads 104 = .ok (.getfield 36, 3) := dk_180 0 36 (dk_at dksX3_leads_4 14 rfl rfl)
theorem dX3_leads_107 : decode cX3_leads 107 = .ok (.aload_n 2, 1) := dk_44 (dk_at dksX3_leads_4 17 rfl rfl)
theorem dX3_leads_108 : decode cX3_leads 108 = .ok (.getfield 92, 3) := dk_180 0 92 (dk_at dksX3_leads_4 18 rfl rfl)
theorem dX3_leads_111 : decode cX3_leads 111 = .ok (.aload_n 0, 1) := dk_42 (dk_at dksX3_leads_4 21 rfl rfl)
theorem dX3_leads_112 : decode cX3_leads 112 = .ok (.getfield 36, 3) := dk_180 0 36 (dk_at dksX3_leads_5 0 rfl rfl)
theorem dX3_leads_115 : decode cX3_leads 115 = .ok (.aload_n 2, 1) := dk_44 (dk_at dksX3_leads_5 3 rfl rfl)
theorem dX3_leads_116 : decode cX3_leads 116 = .ok (.getfield 92, 3) := dk_180 0 92 (dk_at dksX3_leads_5 4 rfl rfl)
theorem dX3_leads_119 : decode cX3_leads 119 = .ok (.iaload, 1) := dk_46 (dk_at dksX3_leads_5 7 rfl rfl)
theorem dX3_leads_120 : decode cX3_leads 120 = .ok (.iconst (-1), 1) := dk_2 (dk_at dksX3_leads_5 8 rfl rfl)
theorem dX3_leads_121 : decode cX3_leads 121 = .ok (.if_icmp .ne 7, 3) := dk_160 0 7 (dk_at dksX3_leads_5 9 rfl rfl)
theorem dX3_leads_124 : decode cX3_leads 124 = .ok (.iload_n 1, 1) := dk_27 (dk_at dksX3_leads_5 12 rfl rfl)
theorem dX3_leads_125 : decode cX3_leads 125 = .ok (.goto 12, 3) := dk_167 0 12 (dk_at dksX3_leads_5 13 rfl rfl)
theorem dX3_leads_128 : decode cX3_leads 128 = .ok (.aload_n 0, 1) := dk_42 (dk_at dksX3_leads_5 16 rfl rfl)
theorem dX3_leads_129 : decode cX3_leads 129 = .ok (.getfield 36, 3) := dk_180 0 36 (dk_at dksX3_leads_5 17 rfl rfl)
theorem dX3_leads_132 : decode cX3_leads 132 = .ok (.aload_n 2, 1) := dk_44 (dk_at dksX3_leads_5 20 rfl rfl)
theorem dX3_leads_133 : decode cX3_leads 133 = .ok (.getfield 92, 3) := dk_180 0 92 (dk_at dksX3_leads_5 21 rfl rfl)
theorem dX3_leads_136 : decode cX3_leads 136 = .ok (.iaload, 1) := dk_46 (dk_at dksX3_leads_6 0 rfl rfl)
theorem dX3_leads_137 : decode cX3_leads 137 = .ok (.iastore, 1) := dk_79 (dk_at dksX3_leads_6 1 rfl rfl)
theorem dX3_leads_138 : decode cX3_leads 138 = .ok (.aload_n 2, 1) := dk_44 (dk_at dksX3_leads_6 2 rfl rfl)
theorem dX3_leads_139 : decode cX3_leads 139 = .ok (.aload_n 2, 1) := dk_44 (dk_at dksX3_leads_6 3 rfl rfl)
theorem dX3_leads_140 : decode cX3_leads 140 = .ok (.getfield 92, 3) := dk_180 0 92 (dk_at dksX3_leads_6 4 rfl rfl)
theorem dX3_leads_143 : decode cX3_leads 143 = .ok (.iconst 2, 1) := dk_5 (dk_at dksX3_leads_6 7 rfl rfl)
theorem dX3_leads_144 : decode cX3_leads 144 = .ok (.iconst 0, 1) := dk_3 (dk_at dksX3_leads_6 8 rfl rfl)
theorem dX3_leads_145 : decode cX3_leads 145 = .ok (.iconst 0, 1) := dk_3 (dk_at dksX3_leads_6 9 rfl rfl)
theorem dX3_leads_146 : decode cX3_leads 146 = .ok (.invokevirtual 230, 3) := dk_182 0 230 (dk_at dksX3_leads_6 10 rfl rfl)
theorem dX3_leads_149 : decode cX3_leads 149 = .ok (.pop, 1) := dk_87 (dk_at dksX3_leads_6 13 rfl rfl)
theorem dX3_leads_150 : decode cX3_leads 150 = .ok (.aload_n 2, 1) := dk_44 (dk_at dksX3_leads_6 14 rfl rfl)
theorem dX3_leads_151 : decode cX3_leads 151 = .ok (.getfield 221, 3) := dk_180 0 221 (dk_at dksX3_leads_6 15 rfl rfl)
theorem dX3_leads_154 : decode cX3_leads 154 = .ok (.iload_n 1, 1) := dk_27 (dk_at dksX3_leads_6 18 rfl rfl)
theorem dX3_leads_155 : decode cX3_leads 155 = .ok (.aload_n 2, 1) := dk_44 (dk_at dksX3_leads_6 19 rfl rfl)
theorem dX3_leads_156 : decode cX3_leads 156 = .ok (.invokevirtual 173, 3) := dk_182 0 173 (dk_at dksX3_leads_6 20 rfl rfl)
theorem dX3_leads_159 : decode cX3_leads 159 = .ok (.iastore, 1) := dk_79 (dk_at dksX3_leads_6 23 rfl rfl)
theorem dX3_leads_160 : decode cX3_leads 160 = .ok (.aload_n 0, 1) := dk_42 (dk_at dksX3_leads_7 0 rfl rfl)
theorem dX3_leads_161 : decode cX3_leads 161 = .ok (.iload_n 1, 1) := dk_27 (dk_at dksX3_leads_7 1 rfl rfl)
theorem dX3_leads_162 : decode cX3_leads 162 = .ok (.invokevirtual 234, 3) := dk_182 0 234 (dk_at dksX3_leads_7 2 rfl rfl)
theorem dX3_leads_165 : decode cX3_leads 165 = .ok (.aload_n 0, 1) := dk_42 (dk_at dksX3_leads_7 5 rfl rfl)
theorem dX3_leads_166 : decode cX3_leads 166 = .ok (.iload_n 1, 1) := dk_27 (dk_at dksX3_leads_7 6 rfl rfl)
theorem dX3_leads_167 : decode cX3_leads 167 = .ok (.invokevirtual 237, 3) := dk_182 0 237 (dk_at dksX3_leads_7 7 rfl rfl)
theorem dX3_leads_170 : decode cX3_leads 170 = .ok (.return_, 1) := dk_177 (dk_at dksX3_leads_7 10 rfl rfl)
abbrev cX3_takesEntries : ByteArray := prog_3_method_23_code
def yX3_takesEntries : MethodName := ⟨RX3, "takesEntries", "(I)V"⟩
def dkwX3_takesEntries_9 : List UInt8 := [180, 0, 42, 16, 8, 46, 182, 0, 243, 177]
abbrev dktX3_takesEntries_9 : List UInt8 := dkwX3_takesEntries_9 ++ []
def dkwX3_takesEntries_8 : List UInt8 := [180, 0, 42, 16, 7, 46, 21, 5, 184, 0, 115, 182, 1, 15, 42, 27, 29, 6, 4, 21, 5, 42]
abbrev dktX3_takesEntries_8 : List UInt8 := dkwX3_takesEntries_8 ++ dktX3_takesEntries_9
def dkwX3_takesEntries_7 : List UInt8 := [182, 1, 11, 153, 0, 18, 21, 4, 4, 96, 21, 6, 96, 54, 5, 132, 6, 1, 167, 255, 215, 42, 27, 42]
abbrev dktX3_takesEntries_7 : List UInt8 := dkwX3_takesEntries_7 ++ dktX3_takesEntries_8
def dkwX3_takesEntries_6 : List UInt8 := [21, 6, 42, 180, 0, 42, 16, 9, 46, 162, 0, 35, 42, 27, 21, 4, 4, 96, 21, 6, 96, 21, 6]
abbrev dktX3_takesEntries_6 : List UInt8 := dkwX3_takesEntries_6 ++ dktX3_takesEntries_7
def dkwX3_takesEntries_5 : List UInt8 := [44, 21, 4, 182, 1, 8, 42, 180, 0, 42, 16, 8, 46, 182, 0, 243, 177, 21, 4, 54, 5, 3, 54, 6]
abbrev dktX3_takesEntries_5 : List UInt8 := dkwX3_takesEntries_5 ++ dktX3_takesEntries_6
def dkwX3_takesEntries_4 : List UInt8 := [161, 0, 41, 44, 21, 4, 182, 0, 166, 42, 180, 0, 42, 16, 6, 46, 159, 0, 25, 42, 27, 29, 6, 3]
abbrev dktX3_takesEntries_4 : List UInt8 := dkwX3_takesEntries_4 ++ dktX3_takesEntries_5
def dkwX3_takesEntries_3 : List UInt8 := [3, 44, 182, 0, 173, 4, 96, 42, 180, 0, 42, 16, 8, 46, 182, 0, 243, 177, 21, 4, 44, 180, 0, 148]
abbrev dktX3_takesEntries_3 : List UInt8 := dkwX3_takesEntries_3 ++ dktX3_takesEntries_4
def dkwX3_takesEntries_2 : List UInt8 := [182, 0, 80, 42, 180, 0, 42, 8, 46, 54, 4, 21, 4, 44, 182, 0, 173, 164, 0, 25, 42, 27, 29, 6]
abbrev dktX3_takesEntries_2 : List UInt8 := dkwX3_takesEntries_2 ++ dktX3_takesEntries_3
def dkwX3_takesEntries_1 : List UInt8 := [162, 0, 14, 42, 27, 29, 6, 3, 4, 3, 182, 0, 243, 177, 42, 27, 29, 182, 1, 5, 42, 27]
abbrev dktX3_takesEntries_1 : List UInt8 := dkwX3_takesEntries_1 ++ dktX3_takesEntries_2
def dkwX3_takesEntries_0 : List UInt8 := [42, 180, 0, 17, 27, 50, 77, 42, 180, 0, 42, 3, 46, 62, 42, 180, 0, 42, 6, 46, 44, 180, 0, 92]
abbrev dktX3_takesEntries_0 : List UInt8 := dkwX3_takesEntries_0 ++ dktX3_takesEntries_1
theorem dksX3_takesEntries_0 : cX3_takesEntries.data.toList.drop 0 = dktX3_takesEntries_0 := by decide +kernel
theorem dksX3_takesEntries_1 : cX3_takesEntries.data.toList.drop 24 = dktX3_takesEntries_1 := dk_seg dksX3_takesEntries_0 24 rfl rfl
theorem dksX3_takesEntries_2 : cX3_takesEntries.data.toList.drop 46 = dktX3_takesEntries_2 := dk_seg dksX3_takesEntries_1 22 rfl rfl
theorem dksX3_takesEntries_3 : cX3_takesEntries.data.toList.drop 70 = dktX3_takesEntries_3 := dk_seg dksX3_takesEntries_2 24 rfl rfl
theorem dksX3_takesEntries_4 : cX3_takesEntries.data.toList.drop 94 = dktX3_takesEntries_4 := dk_seg dksX3_takesEntries_3 24 rfl rfl
theorem dksX3_takesEntries_5 : cX3_takesEntries.data.toList.drop 118 = dktX3_takesEntries_5 := dk_seg dksX3_takesEntries_4 24 rfl rfl
theorem dksX3_takesEntries_6 : cX3_takesEntries.data.toList.drop 142 = dktX3_takesEntries_6 := dk_seg dksX3_takesEntries_5 24 rfl rfl
theorem dksX3_takesEntries_7 : cX3_takesEntries.data.toList.drop 165 = dktX3_takesEntries_7 := dk_seg dksX3_takesEntries_6 23 rfl rfl
theorem dksX3_takesEntries_8 : cX3_takesEntries.data.toList.drop 189 = dktX3_takesEntries_8 := dk_seg dksX3_takesEntries_7 24 rfl rfl
theorem dksX3_takesEntries_9 : cX3_takesEntries.data.toList.drop 211 = dktX3_takesEntries_9 := dk_seg dksX3_takesEntries_8 22 rfl rfl
theorem dX3_takesEntries_0 : decode cX3_takesEntries 0 = .ok (.aload_n 0, 1) := dk_42 (dk_at dksX3_takesEntries_0 0 rfl rfl)
theorem dX3_takesEntries_1 : decode cX3_takesEntries 1 = .ok (.getfield 17, 3) := dk_180 0 17 (dk_at dksX3_takesEntries_0 1 rfl rfl)
theorem dX3_takesEntries_4 : decode cX3_takesEntries 4 = .ok (.iload_n 1, 1) := dk_27 (dk_at dksX3_takesEntries_0 4 rfl rfl)
theorem dX3_takesEntries_5 : decode cX3_takesEntries 5 = .ok (.aaload, 1) := dk_50 (dk_at dksX3_takesEntries_0 5 rfl rfl)
theorem dX3_takesEntries_6 : decode cX3_takesEntries 6 = .ok (.astore_n 2, 1) := dk_77 (dk_at dksX3_takesEntries_0 6 rfl rfl)
theorem dX3_takesEntries_7 : decode cX3_takesEntries 7 = .ok (.aload_n 0, 1) := dk_42 (dk_at dksX3_takesEntries_0 7 rfl rfl)
theorem dX3_takesEntries_8 : decode cX3_takesEntries 8 = .ok (.getfield 42, 3) := dk_180 0 42 (dk_at dksX3_takesEntries_0 8 rfl rfl)
theorem dX3_takesEntries_11 : decode cX3_takesEntries 11 = .ok (.iconst 0, 1) := dk_3 (dk_at dksX3_takesEntries_0 11 rfl rfl)
theorem dX3_takesEntries_12 : decode cX3_takesEntries 12 = .ok (.iaload, 1) := dk_46 (dk_at dksX3_takesEntries_0 12 rfl rfl)
theorem dX3_takesEntries_13 : decode cX3_takesEntries 13 = .ok (.istore_n 3, 1) := dk_62 (dk_at dksX3_takesEntries_0 13 rfl rfl)
theorem dX3_takesEntries_14 : decode cX3_takesEntries 14 = .ok (.aload_n 0, 1) := dk_42 (dk_at dksX3_takesEntries_0 14 rfl rfl)
theorem dX3_takesEntries_15 : decode cX3_takesEntries 15 = .ok (.getfield 42, 3) := dk_180 0 42 (dk_at dksX3_takesEntries_0 15 rfl rfl)
theorem dX3_takesEntries_18 : decode cX3_takesEntries 18 = .ok (.iconst 3, 1) := dk_6 (dk_at dksX3_takesEntries_0 18 rfl rfl)
theorem dX3_takesEntries_19 : decode cX3_takesEntries 19 = .ok (.iaload, 1) := dk_46 (dk_at dksX3_takesEntries_0 19 rfl rfl)
theorem dX3_takesEntries_20 : decode cX3_takesEntries 20 = .ok (.aload_n 2, 1) := dk_44 (dk_at dksX3_takesEntries_0 20 rfl rfl)
theorem dX3_takesEntries_21 : decode cX3_takesEntries 21 = .ok (.getfield 92, 3) := dk_180 0 92 (dk_at dksX3_takesEntries_0 21 rfl rfl)
theorem dX3_takesEntries_24 : decode cX3_takesEntries 24 = .ok (.if_icmp .ge 14, 3) := dk_162 0 14 (dk_at dksX3_takesEntries_1 0 rfl rfl)
theorem dX3_takesEntries_27 : decode cX3_takesEntries 27 = .ok (.aload_n 0, 1) := dk_42 (dk_at dksX3_takesEntries_1 3 rfl rfl)
theorem dX3_takesEntries_28 : decode cX3_takesEntries 28 = .ok (.iload_n 1, 1) := dk_27 (dk_at dksX3_takesEntries_1 4 rfl rfl)
theorem dX3_takesEntries_29 : decode cX3_takesEntries 29 = .ok (.iload_n 3, 1) := dk_29 (dk_at dksX3_takesEntries_1 5 rfl rfl)
theorem dX3_takesEntries_30 : decode cX3_takesEntries 30 = .ok (.iconst 3, 1) := dk_6 (dk_at dksX3_takesEntries_1 6 rfl rfl)
theorem dX3_takesEntries_31 : decode cX3_takesEntries 31 = .ok (.iconst 0, 1) := dk_3 (dk_at dksX3_takesEntries_1 7 rfl rfl)
theorem dX3_takesEntries_32 : decode cX3_takesEntries 32 = .ok (.iconst 1, 1) := dk_4 (dk_at dksX3_takesEntries_1 8 rfl rfl)
theorem dX3_takesEntries_33 : decode cX3_takesEntries 33 = .ok (.iconst 0, 1) := dk_3 (dk_at dksX3_takesEntries_1 9 rfl rfl)
theorem dX3_takesEntries_34 : decode cX3_takesEntries 34 = .ok (.invokevirtual 243, 3) := dk_182 0 243 (dk_at dksX3_takesEntries_1 10 rfl rfl)
theorem dX3_takesEntries_37 : decode cX3_takesEntries 37 = .ok (.return_, 1) := dk_177 (dk_at dksX3_takesEntries_1 13 rfl rfl)
theorem dX3_takesEntries_38 : decode cX3_takesEntries 38 = .ok (.aload_n 0, 1) := dk_42 (dk_at dksX3_takesEntries_1 14 rfl rfl)
theorem dX3_takesEntries_39 : decode cX3_takesEntries 39 = .ok (.iload_n 1, 1) := dk_27 (dk_at dksX3_takesEntries_1 15 rfl rfl)
theorem dX3_takesEntries_40 : decode cX3_takesEntries 40 = .ok (.iload_n 3, 1) := dk_29 (dk_at dksX3_takesEntries_1 16 rfl rfl)
theorem dX3_takesEntries_41 : decode cX3_takesEntries 41 = .ok (.invokevirtual 261, 3) := dk_182 1 5 (dk_at dksX3_takesEntries_1 17 rfl rfl)
theorem dX3_takesEntries_44 : decode cX3_takesEntries 44 = .ok (.aload_n 0, 1) := dk_42 (dk_at dksX3_takesEntries_1 20 rfl rfl)
theorem dX3_takesEntries_45 : decode cX3_takesEntries 45 = .ok (.iload_n 1, 1) := dk_27 (dk_at dksX3_takesEntries_1 21 rfl rfl)
theorem dX3_takesEntries_46 : decode cX3_takesEntries 46 = .ok (.invokevirtual 80, 3) := dk_182 0 80 (dk_at dksX3_takesEntries_2 0 rfl rfl)
theorem dX3_takesEntries_49 : decode cX3_takesEntries 49 = .ok (.aload_n 0, 1) := dk_42 (dk_at dksX3_takesEntries_2 3 rfl rfl)
theorem dX3_takesEntries_50 : decode cX3_takesEntries 50 = .ok (.getfield 42, 3) := dk_180 0 42 (dk_at dksX3_takesEntries_2 4 rfl rfl)
theorem dX3_takesEntries_53 : decode cX3_takesEntries 53 = .ok (.iconst 5, 1) := dk_8 (dk_at dksX3_takesEntries_2 7 rfl rfl)
theorem dX3_takesEntries_54 : decode cX3_takesEntries 54 = .ok (.iaload, 1) := dk_46 (dk_at dksX3_takesEntries_2 8 rfl rfl)
theorem dX3_takesEntries_55 : decode cX3_takesEntries 55 = .ok (.istore 4, 2) := dk_54 4 (dk_at dksX3_takesEntries_2 9 rfl rfl)
theorem dX3_takesEntries_57 : decode cX3_takesEntries 57 = .ok (.iload 4, 2) := dk_21 4 (dk_at dksX3_takesEntries_2 11 rfl rfl)
theorem dX3_takesEntries_59 : decode cX3_takesEntries 59 = .ok (.aload_n 2, 1) := dk_44 (dk_at dksX3_takesEntries_2 13 rfl rfl)
theorem dX3_takesEntries_60 : decode cX3_takesEntries 60 = .ok (.invokevirtual 173, 3) := dk_182 0 173 (dk_at dksX3_takesEntries_2 14 rfl rfl)
theorem dX3_takesEntries_63 : decode cX3_takesEntries 63 = .ok (.if_icmp .le 25, 3) := dk_164 0 25 (dk_at dksX3_takesEntries_2 17 rfl rfl)
theorem dX3_takesEntries_66 : decode cX3_takesEntries 66 = .ok (.aload_n 0, 1) := dk_42 (dk_at dksX3_takesEntries_2 20 rfl rfl)
theorem dX3_takesEntries_67 : decode cX3_takesEntries 67 = .ok (.iload_n 1, 1) := dk_27 (dk_at dksX3_takesEntries_2 21 rfl rfl)
theorem dX3_takesEntries_68 : decode cX3_takesEntries 68 = .ok (.iload_n 3, 1) := dk_29 (dk_at dksX3_takesEntries_2 22 rfl rfl)
theorem dX3_takesEntries_69 : decode cX3_takesEntries 69 = .ok (.iconst 3, 1) := dk_6 (dk_at dksX3_takesEntries_2 23 rfl rfl)
theorem dX3_takesEntries_70 : decode cX3_takesEntries 70 = .ok (.iconst 0, 1) := dk_3 (dk_at dksX3_takesEntries_3 0 rfl rfl)
theorem dX3_takesEntries_71 : decode cX3_takesEntries 71 = .ok (.aload_n 2, 1) := dk_44 (dk_at dksX3_takesEntries_3 1 rfl rfl)
theorem dX3_takesEntries_72 : decode cX3_takesEntries 72 = .ok (.invokevirtual 173, 3) := dk_182 0 173 (dk_at dksX3_takesEntries_3 2 rfl rfl)
theorem dX3_takesEntries_75 : decode cX3_takesEntries 75 = .ok (.iconst 1, 1) := dk_4 (dk_at dksX3_takesEntries_3 5 rfl rfl)
theorem dX3_takesEntries_76 : decode cX3_takesEntries 76 = .ok (.iadd, 1) := dk_96 (dk_at dksX3_takesEntries_3 6 rfl rfl)
theorem dX3_takesEntries_77 : decode cX3_takesEntries 77 = .ok (.aload_n 0, 1) := dk_42 (dk_at dksX3_takesEntries_3 7 rfl rfl)
theorem dX3_takesEntries_78 : decode cX3_takesEntries 78 = .ok (.getfield 42, 3) := dk_180 0 42 (dk_at dksX3_takesEntries_3 8 rfl rfl)
theorem dX3_takesEntries_81 : decode cX3_takesEntries 81 = .ok (.bipush 8, 2) := dk_16 8 (dk_at dksX3_takesEntries_3 11 rfl rfl)
theorem dX3_takesEntries_83 : decode cX3_takesEntries 83 = .ok (.iaload, 1) := dk_46 (dk_at dksX3_takesEntries_3 13 rfl rfl)
theorem dX3_takesEntries_84 : decode cX3_takesEntries 84 = .ok (.invokevirtual 243, 3) := dk_182 0 243 (dk_at dksX3_takesEntries_3 14 rfl rfl)
theorem dX3_takesEntries_87 : decode cX3_takesEntries 87 = .ok (.return_, 1) := dk_177 (dk_at dksX3_takesEntries_3 17 rfl rfl)
theorem dX3_takesEntries_88 : decode cX3_takesEntries 88 = .ok (.iload 4, 2) := dk_21 4 (dk_at dksX3_takesEntries_3 18 rfl rfl)
theorem dX3_takesEntries_90 : decode cX3_takesEntries 90 = .ok (.aload_n 2, 1) := dk_44 (dk_at dksX3_takesEntries_3 20 rfl rfl)
theorem dX3_takesEntries_91 : decode cX3_takesEntries 91 = .ok (.getfield 148, 3) := dk_180 0 148 (dk_at dksX3_takesEntries_3 21 rfl rfl)
theorem dX3_takesEntries_94 : decode cX3_takesEntries 94 = .ok (.if_icmp .lt 41, 3) := dk_161 0 41 (dk_at dksX3_takesEntries_4 0 rfl rfl)
theorem dX3_takesEntries_97 : decode cX3_takesEntries 97 = .ok (.aload_n 2, 1) := dk_44 (dk_at dksX3_takesEntries_4 3 rfl rfl)
theorem dX3_takesEntries_98 : decode cX3_takesEntries 98 = .ok (.iload 4, 2) := dk_21 4 (dk_at dksX3_takesEntries_4 4 rfl rfl)
theorem dX3_takesEntries_100 : decode cX3_takesEntries 100 = .ok (.invokevirtual 166, 3) := dk_182 0 166 (dk_at dksX3_takesEntries_4 6 rfl rfl)
theorem dX3_takesEntries_103 : decode cX3_takesEntries 103 = .ok (.aload_n 0, 1) := dk_42 (dk_at dksX3_takesEntries_4 9 rfl rfl)
theorem dX3_takesEntries_104 : decode cX3_takesEntries 104 = .ok (.getfield 42, 3) := dk_180 0 42 (dk_at dksX3_takesEntries_4 10 rfl rfl)
theorem dX3_takesEntries_107 : decode cX3_takesEntries 107 = .ok (.bipush 6, 2) := dk_16 6 (dk_at dksX3_takesEntries_4 13 rfl rfl)
theorem dX3_takesEntries_109 : decode cX3_takesEntries 109 = .ok (.iaload, 1) := dk_46 (dk_at dksX3_takesEntries_4 15 rfl rfl)
theorem dX3_takesEntries_110 : decode cX3_takesEntries 110 = .ok (.if_icmp .eq 25, 3) := dk_159 0 25 (dk_at dksX3_takesEntries_4 16 rfl rfl)
theorem dX3_takesEntries_113 : decode cX3_takesEntries 113 = .ok (.aload_n 0, 1) := dk_42 (dk_at dksX3_takesEntries_4 19 rfl rfl)
theorem dX3_takesEntries_114 : decode cX3_takesEntries 114 = .ok (.iload_n 1, 1) := dk_27 (dk_at dksX3_takesEntries_4 20 rfl rfl)
theorem dX3_takesEntries_115 : decode cX3_takesEntries 115 = .ok (.iload_n 3, 1) := dk_29 (dk_at dksX3_takesEntries_4 21 rfl rfl)
theorem dX3_takesEntries_116 : decode cX3_takesEntries 116 = .ok (.iconst 3, 1) := dk_6 (dk_at dksX3_takesEntries_4 22 rfl rfl)
theorem dX3_takesEntries_117 : decode cX3_takesEntries 117 = .ok (.iconst 0, 1) := dk_3 (dk_at dksX3_takesEntries_4 23 rfl rfl)
theorem dX3_takesEntries_118 : decode cX3_takesEntries 118 = .ok (.aload_n 2, 1) := dk_44 (dk_at dksX3_takesEntries_5 0 rfl rfl)
theorem dX3_takesEntries_119 : decode cX3_takesEntries 119 = .ok (.iload 4, 2) := dk_21 4 (dk_at dksX3_takesEntries_5 1 rfl rfl)
theorem dX3_takesEntries_121 : decode cX3_takesEntries 121 = .ok (.invokevirtual 264, 3) := dk_182 1 8 (dk_at dksX3_takesEntries_5 3 rfl rfl)
theorem dX3_takesEntries_124 : decode cX3_takesEntries 124 = .ok (.aload_n 0, 1) := dk_42 (dk_at dksX3_takesEntries_5 6 rfl rfl)
theorem dX3_takesEntries_125 : decode cX3_takesEntries 125 = .ok (.getfield 42, 3) := dk_180 0 42 (dk_at dksX3_takesEntries_5 7 rfl rfl)
theorem dX3_takesEntries_128 : decode cX3_takesEntries 128 = .ok (.bipush 8, 2) := dk_16 8 (dk_at dksX3_takesEntries_5 10 rfl rfl)
theorem dX3_takesEntries_130 : decode cX3_takesEntries 130 = .ok (.iaload, 1) := dk_46 (dk_at dksX3_takesEntries_5 12 rfl rfl)
theorem dX3_takesEntries_131 : decode cX3_takesEntries 131 = .ok (.invokevirtual 243, 3) := dk_182 0 243 (dk_at dksX3_takesEntries_5 13 rfl rfl)
theorem dX3_takesEntries_134 : decode cX3_takesEntries 134 = .ok (.return_, 1) := dk_177 (dk_at dksX3_takesEntries_5 16 rfl rfl)
theorem dX3_takesEntries_135 : decode cX3_takesEntries 135 = .ok (.iload 4, 2) := dk_21 4 (dk_at dksX3_takesEntries_5 17 rfl rfl)
theorem dX3_takesEntries_137 : decode cX3_takesEntries 137 = .ok (.istore 5, 2) := dk_54 5 (dk_at dksX3_takesEntries_5 19 rfl rfl)
theorem dX3_takesEntries_139 : decode cX3_takesEntries 139 = .ok (.iconst 0, 1) := dk_3 (dk_at dksX3_takesEntries_5 21 rfl rfl)
theorem dX3_takesEntries_140 : decode cX3_takesEntries 140 = .ok (.istore 6, 2) := dk_54 6 (dk_at dksX3_takesEntries_5 22 rfl rfl)
theorem dX3_takesEntries_142 : decode cX3_takesEntries 142 = .ok (.iload 6, 2) := dk_21 6 (dk_at dksX3_takesEntries_6 0 rfl rfl)
theorem dX3_takesEntries_144 : decode cX3_takesEntries 144 = .ok (.aload_n 0, 1) := dk_42 (dk_at dksX3_takesEntries_6 2 rfl rfl)
theorem dX3_takesEntries_145 : decode cX3_takesEntries 145 = .ok (.getfield 42, 3) := dk_180 0 42 (dk_at dksX3_takesEntries_6 3 rfl rfl)
theorem dX3_takesEntries_148 : decode cX3_takesEntries 148 = .ok (.bipush 9, 2) := dk_16 9 (dk_at dksX3_takesEntries_6 6 rfl rfl)
theorem dX3_takesEntries_150 : decode cX3_takesEntries 150 = .ok (.iaload, 1) := dk_46 (dk_at dksX3_takesEntries_6 8 rfl rfl)
theorem dX3_takesEntries_151 : decode cX3_takesEntries 151 = .ok (.if_icmp .ge 35, 3) := dk_162 0 35 (dk_at dksX3_takesEntries_6 9 rfl rfl)
theorem dX3_takesEntries_154 : decode cX3_takesEntries 154 = .ok (.aload_n 0, 1) := dk_42 (dk_at dksX3_takesEntries_6 12 rfl rfl)
theorem dX3_takesEntries_155 : decode cX3_takesEntries 155 = .ok (.iload_n 1, 1) := dk_27 (dk_at dksX3_takesEntries_6 13 rfl rfl)
theorem dX3_takesEntries_156 : decode cX3_takesEntries 156 = .ok (.iload 4, 2) := dk_21 4 (dk_at dksX3_takesEntries_6 14 rfl rfl)
theorem dX3_takesEntries_158 : decode cX3_takesEntries 158 = .ok (.iconst 1, 1) := dk_4 (dk_at dksX3_takesEntries_6 16 rfl rfl)
theorem dX3_takesEntries_159 : decode cX3_takesEntries 159 = .ok (.iadd, 1) := dk_96 (dk_at dksX3_takesEntries_6 17 rfl rfl)
theorem dX3_takesEntries_160 : decode cX3_takesEntries 160 = .ok (.iload 6, 2) := dk_21 6 (dk_at dksX3_takesEntries_6 18 rfl rfl)
theorem dX3_takesEntries_162 : decode cX3_takesEntries 162 = .ok (.iadd, 1) := dk_96 (dk_at dksX3_takesEntries_6 20 rfl rfl)
theorem dX3_takesEntries_163 : decode cX3_takesEntries 163 = .ok (.iload 6, 2) := dk_21 6 (dk_at dksX3_takesEntries_6 21 rfl rfl)
theorem dX3_takesEntries_165 : decode cX3_takesEntries 165 = .ok (.invokevirtual 267, 3) := dk_182 1 11 (dk_at dksX3_takesEntries_7 0 rfl rfl)
theorem dX3_takesEntries_168 : decode cX3_takesEntries 168 = .ok (.ifCond .eq 18, 3) := dk_153 0 18 (dk_at dksX3_takesEntries_7 3 rfl rfl)
theorem dX3_takesEntries_171 : decode cX3_takesEntries 171 = .ok (.iload 4, 2) := dk_21 4 (dk_at dksX3_takesEntries_7 6 rfl rfl)
theorem dX3_takesEntries_173 : decode cX3_takesEntries 173 = .ok (.iconst 1, 1) := dk_4 (dk_at dksX3_takesEntries_7 8 rfl rfl)
theorem dX3_takesEntries_174 : decode cX3_takesEntries 174 = .ok (.iadd, 1) := dk_96 (dk_at dksX3_takesEntries_7 9 rfl rfl)
theorem dX3_takesEntries_175 : decode cX3_takesEntries 175 = .ok (.iload 6, 2) := dk_21 6 (dk_at dksX3_takesEntries_7 10 rfl rfl)
theorem dX3_takesEntries_177 : decode cX3_takesEntries 177 = .ok (.iadd, 1) := dk_96 (dk_at dksX3_takesEntries_7 12 rfl rfl)
theorem dX3_takesEntries_178 : decode cX3_takesEntries 178 = .ok (.istore 5, 2) := dk_54 5 (dk_at dksX3_takesEntries_7 13 rfl rfl)
theorem dX3_takesEntries_180 : decode cX3_takesEntries 180 = .ok (.iinc 6 1, 3) := dk_132 6 1 (dk_at dksX3_takesEntries_7 15 rfl rfl)
theorem dX3_takesEntries_183 : decode cX3_takesEntries 183 = .ok (.goto (-41), 3) := dk_167 255 215 (dk_at dksX3_takesEntries_7 18 rfl rfl)
theorem dX3_takesEntries_186 : decode cX3_takesEntries 186 = .ok (.aload_n 0, 1) := dk_42 (dk_at dksX3_takesEntries_7 21 rfl rfl)
theorem dX3_takesEntries_187 : decode cX3_takesEntries 187 = .ok (.iload_n 1, 1) := dk_27 (dk_at dksX3_takesEntries_7 22 rfl rfl)
theorem dX3_takesEntries_188 : decode cX3_takesEntries 188 = .ok (.aload_n 0, 1) := dk_42 (dk_at dksX3_takesEntries_7 23 rfl rfl)
theorem dX3_takesEntries_189 : decode cX3_takesEntries 189 = .ok (.getfield 42, 3) := dk_180 0 42 (dk_at dksX3_takesEntries_8 0 rfl rfl)
theorem dX3_takesEntries_192 : decode cX3_takesEntries 192 = .ok (.bipush 7, 2) := dk_16 7 (dk_at dksX3_takesEntries_8 3 rfl rfl)
theorem dX3_takesEntries_194 : decode cX3_takesEntries 194 = .ok (.iaload, 1) := dk_46 (dk_at dksX3_takesEntries_8 5 rfl rfl)
theorem dX3_takesEntries_195 : decode cX3_takesEntries 195 = .ok (.iload 5, 2) := dk_21 5 (dk_at dksX3_takesEntries_8 6 rfl rfl)
theorem dX3_takesEntries_197 : decode cX3_takesEntries 197 = .ok (.invokestatic 115, 3) := dk_184 0 115 (dk_at dksX3_takesEntries_8 8 rfl rfl)
theorem dX3_takesEntries_200 : decode cX3_takesEntries 200 = .ok (.invokevirtual 271, 3) := dk_182 1 15 (dk_at dksX3_takesEntries_8 11 rfl rfl)
theorem dX3_takesEntries_203 : decode cX3_takesEntries 203 = .ok (.aload_n 0, 1) := dk_42 (dk_at dksX3_takesEntries_8 14 rfl rfl)
theorem dX3_takesEntries_204 : decode cX3_takesEntries 204 = .ok (.iload_n 1, 1) := dk_27 (dk_at dksX3_takesEntries_8 15 rfl rfl)
theorem dX3_takesEntries_205 : decode cX3_takesEntries 205 = .ok (.iload_n 3, 1) := dk_29 (dk_at dksX3_takesEntries_8 16 rfl rfl)
theorem dX3_takesEntries_206 : decode cX3_takesEntries 206 = .ok (.iconst 3, 1) := dk_6 (dk_at dksX3_takesEntries_8 17 rfl rfl)
theorem dX3_takesEntries_207 : decode cX3_takesEntries 207 = .ok (.iconst 1, 1) := dk_4 (dk_at dksX3_takesEntries_8 18 rfl rfl)
theorem dX3_takesEntries_208 : decode cX3_takesEntries 208 = .ok (.iload 5, 2) := dk_21 5 (dk_at dksX3_takesEntries_8 19 rfl rfl)
theorem dX3_takesEntries_210 : decode cX3_takesEntries 210 = .ok (.aload_n 0, 1) := dk_42 (dk_at dksX3_takesEntries_8 21 rfl rfl)
theorem dX3_takesEntries_211 : decode cX3_takesEntries 211 = .ok (.getfield 42, 3) := dk_180 0 42 (dk_at dksX3_takesEntries_9 0 rfl rfl)
theorem dX3_takesEntries_214 : decode cX3_takesEntries 214 = .ok (.bipush 8, 2) := dk_16 8 (dk_at dksX3_takesEntries_9 3 rfl rfl)
theorem dX3_takesEntries_216 : decode cX3_takesEntries 216 = .ok (.iaload, 1) := dk_46 (dk_at dksX3_takesEntries_9 5 rfl rfl)
theorem dX3_takesEntries_217 : decode cX3_takesEntries 217 = .ok (.invokevirtual 243, 3) := dk_182 0 243 (dk_at dksX3_takesEntries_9 6 rfl rfl)
theorem dX3_takesEntries_220 : decode cX3_takesEntries 220 = .ok (.return_, 1) := dk_177 (dk_at dksX3_takesEntries_9 9 rfl rfl)
abbrev cX3_comesTo : ByteArray := prog_3_method_22_code
def yX3_comesTo : MethodName := ⟨RX3, "comesTo", "(III)Z"⟩
def dkwX3_comesTo_6 : List UInt8 := [172]
abbrev dktX3_comesTo_6 : List UInt8 := dkwX3_comesTo_6 ++ []
def dkwX3_comesTo_5 : List UInt8 := [4, 96, 46, 42, 180, 0, 42, 21, 5, 5, 96, 46, 42, 180, 0, 42, 21, 5, 6, 96, 46, 182, 0, 230]
abbrev dktX3_comesTo_5 : List UInt8 := dkwX3_comesTo_5 ++ dktX3_comesTo_6
def dkwX3_comesTo_4 : List UInt8 := [180, 0, 148, 100, 4, 100, 181, 1, 4, 25, 4, 42, 180, 0, 42, 21, 5, 46, 42, 180, 0, 42, 21, 5]
abbrev dktX3_comesTo_4 : List UInt8 := dkwX3_comesTo_4 ++ dktX3_comesTo_5
def dkwX3_comesTo_3 : List UInt8 := [42, 89, 180, 0, 70, 4, 96, 181, 0, 70, 25, 4, 28, 4, 100, 181, 0, 170, 25, 4, 28, 25, 4]
abbrev dktX3_comesTo_3 : List UInt8 := dkwX3_comesTo_3 ++ dktX3_comesTo_4
def dkwX3_comesTo_2 : List UInt8 := [46, 160, 0, 5, 4, 172, 25, 4, 28, 182, 1, 1, 153, 0, 44, 28, 25, 4, 180, 0, 170, 163, 0, 21]
abbrev dktX3_comesTo_2 : List UInt8 := dkwX3_comesTo_2 ++ dktX3_comesTo_3
def dkwX3_comesTo_1 : List UInt8 := [164, 0, 28, 25, 4, 28, 182, 1, 1, 153, 0, 21, 25, 4, 28, 182, 0, 166, 42, 180, 0, 42, 21, 5]
abbrev dktX3_comesTo_1 : List UInt8 := dkwX3_comesTo_1 ++ dktX3_comesTo_2
def dkwX3_comesTo_0 : List UInt8 := [42, 180, 0, 17, 27, 50, 58, 4, 16, 10, 7, 29, 104, 96, 54, 5, 28, 25, 4, 180, 0, 148]
abbrev dktX3_comesTo_0 : List UInt8 := dkwX3_comesTo_0 ++ dktX3_comesTo_1
theorem dksX3_comesTo_0 : cX3_comesTo.data.toList.drop 0 = dktX3_comesTo_0 := by decide +kernel
theorem dksX3_comesTo_1 : cX3_comesTo.data.toList.drop 22 = dktX3_comesTo_1 := dk_seg dksX3_comesTo_0 22 rfl rfl
theorem dksX3_comesTo_2 : cX3_comesTo.data.toList.drop 46 = dktX3_comesTo_2 := dk_seg dksX3_comesTo_1 24 rfl rfl
theorem dksX3_comesTo_3 : cX3_comesTo.data.toList.drop 70 = dktX3_comesTo_3 := dk_seg dksX3_comesTo_2 24 rfl rfl
theorem dksX3_comesTo_4 : cX3_comesTo.data.toList.drop 93 = dktX3_comesTo_4 := dk_seg dksX3_comesTo_3 23 rfl rfl
theorem dksX3_comesTo_5 : cX3_comesTo.data.toList.drop 117 = dktX3_comesTo_5 := dk_seg dksX3_comesTo_4 24 rfl rfl
theorem dksX3_comesTo_6 : cX3_comesTo.data.toList.drop 141 = dktX3_comesTo_6 := dk_seg dksX3_comesTo_5 24 rfl rfl
theorem dX3_comesTo_0 : decode cX3_comesTo 0 = .ok (.aload_n 0, 1) := dk_42 (dk_at dksX3_comesTo_0 0 rfl rfl)
theorem dX3_comesTo_1 : decode cX3_comesTo 1 = .ok (.getfield 17, 3) := dk_180 0 17 (dk_at dksX3_comesTo_0 1 rfl rfl)
theorem dX3_comesTo_4 : decode cX3_comesTo 4 = .ok (.iload_n 1, 1) := dk_27 (dk_at dksX3_comesTo_0 4 rfl rfl)
theorem dX3_comesTo_5 : decode cX3_comesTo 5 = .ok (.aaload, 1) := dk_50 (dk_at dksX3_comesTo_0 5 rfl rfl)
theorem dX3_comesTo_6 : decode cX3_comesTo 6 = .ok (.astore 4, 2) := dk_58 4 (dk_at dksX3_comesTo_0 6 rfl rfl)
theorem dX3_comesTo_8 : decode cX3_comesTo 8 = .ok (.bipush 10, 2) := dk_16 10 (dk_at dksX3_comesTo_0 8 rfl rfl)
theorem dX3_comesTo_10 : decode cX3_comesTo 10 = .ok (.iconst 4, 1) := dk_7 (dk_at dksX3_comesTo_0 10 rfl rfl)
theorem dX3_comesTo_11 : decode cX3_comesTo 11 = .ok (.iload_n 3, 1) := dk_29 (dk_at dksX3_comesTo_0 11 rfl rfl)
theorem dX3_comesTo_12 : decode cX3_comesTo 12 = .ok (.imul, 1) := dk_104 (dk_at dksX3_comesTo_0 12 rfl rfl)
theorem dX3_comesTo_13 : decode cX3_comesTo 13 = .ok (.iadd, 1) := dk_96 (dk_at dksX3_comesTo_0 13 rfl rfl)
theorem dX3_comesTo_14 : decode cX3_comesTo 14 = .ok (.istore 5, 2) := dk_54 5 (dk_at dksX3_comesTo_0 14 rfl rfl)
theorem dX3_comesTo_16 : decode cX3_comesTo 16 = .ok (.iload_n 2, 1) := dk_28 (dk_at dksX3_comesTo_0 16 rfl rfl)
theorem dX3_comesTo_17 : decode cX3_comesTo 17 = .ok (.aload 4, 2) := dk_25 4 (dk_at dksX3_comesTo_0 17 rfl rfl)
theorem dX3_comesTo_19 : decode cX3_comesTo 19 = .ok (.getfield 148, 3) := dk_180 0 148 (dk_at dksX3_comesTo_0 19 rfl rfl)
theorem dX3_comesTo_22 : decode cX3_comesTo 22 = .ok (.if_icmp .le 28, 3) := dk_164 0 28 (dk_at dksX3_comesTo_1 0 rfl rfl)
theorem dX3_comesTo_25 : decode cX3_comesTo 25 = .ok (.aload 4, 2) := dk_25 4 (dk_at dksX3_comesTo_1 3 rfl rfl)
theorem dX3_comesTo_27 : decode cX3_comesTo 27 = .ok (.iload_n 2, 1) := dk_28 (dk_at dksX3_comesTo_1 5 rfl rfl)
theorem dX3_comesTo_28 : decode cX3_comesTo 28 = .ok (.invokevirtual 257, 3) := dk_182 1 1 (dk_at dksX3_comesTo_1 6 rfl rfl)
theorem dX3_comesTo_31 : decode cX3_comesTo 31 = .ok (.ifCond .eq 21, 3) := dk_153 0 21 (dk_at dksX3_comesTo_1 9 rfl rfl)
theorem dX3_comesTo_34 : decode cX3_comesTo 34 = .ok (.aload 4, 2) := dk_25 4 (dk_at dksX3_comesTo_1 12 rfl rfl)
theorem dX3_comesTo_36 : decode cX3_comesTo 36 = .ok (.iload_n 2, 1) := dk_28 (dk_at dksX3_comesTo_1 14 rfl rfl)
theorem dX3_comesTo_37 : decode cX3_comesTo 37 = .ok (.invokevirtual 166, 3) := dk_182 0 166 (dk_at dksX3_comesTo_1 15 rfl rfl)
theorem dX3_comesTo_40 : decode cX3_comesTo 40 = .ok (.aload_n 0, 1) := dk_42 (dk_at dksX3_comesTo_1 18 rfl rfl)
theorem dX3_comesTo_41 : decode cX3_comesTo 41 = .ok (.getfield 42, 3) := dk_180 0 42 (dk_at dksX3_comesTo_1 19 rfl rfl)
theorem dX3_comesTo_44 : decode cX3_comesTo 44 = .ok (.iload 5, 2) := dk_21 5 (dk_at dksX3_comesTo_1 22 rfl rfl)
theorem dX3_comesTo_46 : decode cX3_comesTo 46 = .ok (.iaload, 1) := dk_46 (dk_at dksX3_comesTo_2 0 rfl rfl)
theorem dX3_comesTo_47 : decode cX3_comesTo 47 = .ok (.if_icmp .ne 5, 3) := dk_160 0 5 (dk_at dksX3_comesTo_2 1 rfl rfl)
theorem dX3_comesTo_50 : decode cX3_comesTo 50 = .ok (.iconst 1, 1) := dk_4 (dk_at dksX3_comesTo_2 4 rfl rfl)
theorem dX3_comesTo_51 : decode cX3_comesTo 51 = .ok (.ireturn, 1) := dk_172 (dk_at dksX3_comesTo_2 5 rfl rfl)
theorem dX3_comesTo_52 : decode cX3_comesTo 52 = .ok (.aload 4, 2) := dk_25 4 (dk_at dksX3_comesTo_2 6 rfl rfl)
theorem dX3_comesTo_54 : decode cX3_comesTo 54 = .ok (.iload_n 2, 1) := dk_28 (dk_at dksX3_comesTo_2 8 rfl rfl)
theorem dX3_comesTo_55 : decode cX3_comesTo 55 = .ok (.invokevirtual 257, 3) := dk_182 1 1 (dk_at dksX3_comesTo_2 9 rfl rfl)
theorem dX3_comesTo_58 : decode cX3_comesTo 58 = .ok (.ifCond .eq 44, 3) := dk_153 0 44 (dk_at dksX3_comesTo_2 12 rfl rfl)
theorem dX3_comesTo_61 : decode cX3_comesTo 61 = .ok (.iload_n 2, 1) := dk_28 (dk_at dksX3_comesTo_2 15 rfl rfl)
theorem dX3_comesTo_62 : decode cX3_comesTo 62 = .ok (.aload 4, 2) := dk_25 4 (dk_at dksX3_comesTo_2 16 rfl rfl)
theorem dX3_comesTo_64 : decode cX3_comesTo 64 = .ok (.getfield 170, 3) := dk_180 0 170 (dk_at dksX3_comesTo_2 18 rfl rfl)
theorem dX3_comesTo_67 : decode cX3_comesTo 67 = .ok (.if_icmp .gt 21, 3) := dk_163 0 21 (dk_at dksX3_comesTo_2 21 rfl rfl)
theorem dX3_comesTo_70 : decode cX3_comesTo 70 = .ok (.aload_n 0, 1) := dk_42 (dk_at dksX3_comesTo_3 0 rfl rfl)
theorem dX3_comesTo_71 : decode cX3_comesTo 71 = .ok (.dup, 1) := dk_89 (dk_at dksX3_comesTo_3 1 rfl rfl)
theorem dX3_comesTo_72 : decode cX3_comesTo 72 = .ok (.getfield 70, 3) := dk_180 0 70 (dk_at dksX3_comesTo_3 2 rfl rfl)
theorem dX3_comesTo_75 : decode cX3_comesTo 75 = .ok (.iconst 1, 1) := dk_4 (dk_at dksX3_comesTo_3 5 rfl rfl)
theorem dX3_comesTo_76 : decode cX3_comesTo 76 = .ok (.iadd, 1) := dk_96 (dk_at dksX3_comesTo_3 6 rfl rfl)
theorem dX3_comesTo_77 : decode cX3_comesTo 77 = .ok (.putfield 70, 3) := dk_181 0 70 (dk_at dksX3_comesTo_3 7 rfl rfl)
theorem dX3_comesTo_80 : decode cX3_comesTo 80 = .ok (.aload 4, 2) := dk_25 4 (dk_at dksX3_comesTo_3 10 rfl rfl)
theorem dX3_comesTo_82 : decode cX3_comesTo 82 = .ok (.iload_n 2, 1) := dk_28 (dk_at dksX3_comesTo_3 12 rfl rfl)
theorem dX3_comesTo_83 : decode cX3_comesTo 83 = .ok (.iconst 1, 1) := dk_4 (dk_at dksX3_comesTo_3 13 rfl rfl)
theorem dX3_comesTo_84 : decode cX3_comesTo 84 = .ok (.isub, 1) := dk_100 (dk_at dksX3_comesTo_3 14 rfl rfl)
theorem dX3_comesTo_85 : decode cX3_comesTo 85 = .ok (.putfield 170, 3) := dk_181 0 170 (dk_at dksX3_comesTo_3 15 rfl rfl)
theorem dX3_comesTo_88 : decode cX3_comesTo 88 = .ok (.aload 4, 2) := dk_25 4 (dk_at dksX3_comesTo_3 18 rfl rfl)
theorem dX3_comesTo_90 : decode cX3_comesTo 90 = .ok (.iload_n 2, 1) := dk_28 (dk_at dksX3_comesTo_3 20 rfl rfl)
theorem dX3_comesTo_91 : decode cX3_comesTo 91 = .ok (.aload 4, 2) := dk_25 4 (dk_at dksX3_comesTo_3 21 rfl rfl)
theorem dX3_comesTo_93 : decode cX3_comesTo 93 = .ok (.getfield 148, 3) := dk_180 0 148 (dk_at dksX3_comesTo_4 0 rfl rfl)
theorem dX3_comesTo_96 : decode cX3_comesTo 96 = .ok (.isub, 1) := dk_100 (dk_at dksX3_comesTo_4 3 rfl rfl)
theorem dX3_comesTo_97 : decode cX3_comesTo 97 = .ok (.iconst 1, 1) := dk_4 (dk_at dksX3_comesTo_4 4 rfl rfl)
theorem dX3_comesTo_98 : decode cX3_comesTo 98 = .ok (.isub, 1) := dk_100 (dk_at dksX3_comesTo_4 5 rfl rfl)
theorem dX3_comesTo_99 : decode cX3_comesTo 99 = .ok (.putfield 260, 3) := dk_181 1 4 (dk_at dksX3_comesTo_4 6 rfl rfl)
theorem dX3_comesTo_102 : decode cX3_comesTo 102 = .ok (.aload 4, 2) := dk_25 4 (dk_at dksX3_comesTo_4 9 rfl rfl)
theorem dX3_comesTo_104 : decode cX3_comesTo 104 = .ok (.aload_n 0, 1) := dk_42 (dk_at dksX3_comesTo_4 11 rfl rfl)
theorem dX3_comesTo_105 : decode cX3_comesTo 105 = .ok (.getfield 42, 3) := dk_180 0 42 (dk_at dksX3_comesTo_4 12 rfl rfl)
theorem dX3_comesTo_108 : decode cX3_comesTo 108 = .ok (.iload 5, 2) := dk_21 5 (dk_at dksX3_comesTo_4 15 rfl rfl)
theorem dX3_comesTo_110 : decode cX3_comesTo 110 = .ok (.iaload, 1) := dk_46 (dk_at dksX3_comesTo_4 17 rfl rfl)
theorem dX3_comesTo_111 : decode cX3_comesTo 111 = .ok (.aload_n 0, 1) := dk_42 (dk_at dksX3_comesTo_4 18 rfl rfl)
theorem dX3_comesTo_112 : decode cX3_comesTo 112 = .ok (.getfield 42, 3) := dk_180 0 42 (dk_at dksX3_comesTo_4 19 rfl rfl)
theorem dX3_comesTo_115 : decode cX3_comesTo 115 = .ok (.iload 5, 2) := dk_21 5 (dk_at dksX3_comesTo_4 22 rfl rfl)
theorem dX3_comesTo_117 : decode cX3_comesTo 117 = .ok (.iconst 1, 1) := dk_4 (dk_at dksX3_comesTo_5 0 rfl rfl)
theorem dX3_comesTo_118 : decode cX3_comesTo 118 = .ok (.iadd, 1) := dk_96 (dk_at dksX3_comesTo_5 1 rfl rfl)
theorem dX3_comesTo_119 : decode cX3_comesTo 119 = .ok (.iaload, 1) := dk_46 (dk_at dksX3_comesTo_5 2 rfl rfl)
theorem dX3_comesTo_120 : decode cX3_comesTo 120 = .ok (.aload_n 0, 1) := dk_42 (dk_at dksX3_comesTo_5 3 rfl rfl)
theorem dX3_comesTo_121 : decode cX3_comesTo 121 = .ok (.getfield 42, 3) := dk_180 0 42 (dk_at dksX3_comesTo_5 4 rfl rfl)
theorem dX3_comesTo_124 : decode cX3_comesTo 124 = .ok (.iload 5, 2) := dk_21 5 (dk_at dksX3_comesTo_5 7 rfl rfl)
theorem dX3_comesTo_126 : decode cX3_comesTo 126 = .ok (.iconst 2, 1) := dk_5 (dk_at dksX3_comesTo_5 9 rfl rfl)
theorem dX3_comesTo_127 : decode cX3_comesTo 127 = .ok (.iadd, 1) := dk_96 (dk_at dksX3_comesTo_5 10 rfl rfl)
theorem dX3_comesTo_128 : decode cX3_comesTo 128 = .ok (.iaload, 1) := dk_46 (dk_at dksX3_comesTo_5 11 rfl rfl)
theorem dX3_comesTo_129 : decode cX3_comesTo 129 = .ok (.aload_n 0, 1) := dk_42 (dk_at dksX3_comesTo_5 12 rfl rfl)
theorem dX3_comesTo_130 : decode cX3_comesTo 130 = .ok (.getfield 42, 3) := dk_180 0 42 (dk_at dksX3_comesTo_5 13 rfl rfl)
theorem dX3_comesTo_133 : decode cX3_comesTo 133 = .ok (.iload 5, 2) := dk_21 5 (dk_at dksX3_comesTo_5 16 rfl rfl)
theorem dX3_comesTo_135 : decode cX3_comesTo 135 = .ok (.iconst 3, 1) := dk_6 (dk_at dksX3_comesTo_5 18 rfl rfl)
theorem dX3_comesTo_136 : decode cX3_comesTo 136 = .ok (.iadd, 1) := dk_96 (dk_at dksX3_comesTo_5 19 rfl rfl)
theorem dX3_comesTo_137 : decode cX3_comesTo 137 = .ok (.iaload, 1) := dk_46 (dk_at dksX3_comesTo_5 20 rfl rfl)
theorem dX3_comesTo_138 : decode cX3_comesTo 138 = .ok (.invokevirtual 230, 3) := dk_182 0 230 (dk_at dksX3_comesTo_5 21 rfl rfl)
theorem dX3_comesTo_141 : decode cX3_comesTo 141 = .ok (.ireturn, 1) := dk_172 (dk_at dksX3_comesTo_6 0 rfl rfl)
abbrev cX3_takesSnapshot : ByteArray := prog_3_method_24_code
def yX3_takesSnapshot : MethodName := ⟨RX3, "takesSnapshot", "(I)V"⟩
def dkwX3_takesSnapshot_10 : List UInt8 := [180, 0, 42, 16, 7, 46, 3, 182, 0, 243, 177]
abbrev dktX3_takesSnapshot_10 : List UInt8 := dkwX3_takesSnapshot_10 ++ []
def dkwX3_takesSnapshot_9 : List UInt8 := [21, 5, 44, 180, 0, 163, 21, 5, 46, 79, 132, 5, 1, 167, 255, 215, 42, 27, 29, 8, 21, 4, 42]
abbrev dktX3_takesSnapshot_9 : List UInt8 := dkwX3_takesSnapshot_9 ++ dktX3_takesSnapshot_10
def dkwX3_takesSnapshot_8 : List UInt8 := [162, 0, 40, 44, 180, 0, 163, 21, 5, 42, 180, 0, 42, 16, 12, 21, 5, 96, 46, 79, 44, 180, 0, 251]
abbrev dktX3_takesSnapshot_8 : List UInt8 := dkwX3_takesSnapshot_8 ++ dktX3_takesSnapshot_9
def dkwX3_takesSnapshot_7 : List UInt8 := [180, 0, 42, 16, 11, 46, 181, 0, 160, 44, 21, 4, 181, 0, 170, 3, 54, 5, 21, 5, 16, 8]
abbrev dktX3_takesSnapshot_7 : List UInt8 := dkwX3_takesSnapshot_7 ++ dktX3_takesSnapshot_8
def dkwX3_takesSnapshot_6 : List UInt8 := [180, 0, 42, 16, 6, 46, 181, 0, 151, 44, 42, 180, 0, 42, 16, 10, 46, 181, 0, 157, 44, 42]
abbrev dktX3_takesSnapshot_6 : List UInt8 := dkwX3_takesSnapshot_6 ++ dktX3_takesSnapshot_7
def dkwX3_takesSnapshot_5 : List UInt8 := [180, 0, 148, 100, 167, 0, 7, 44, 180, 1, 4, 182, 1, 18, 44, 21, 4, 181, 0, 148, 44, 42]
abbrev dktX3_takesSnapshot_5 : List UInt8 := dkwX3_takesSnapshot_5 ++ dktX3_takesSnapshot_6
def dkwX3_takesSnapshot_4 : List UInt8 := [153, 0, 29, 44, 21, 4, 182, 0, 166, 42, 180, 0, 42, 16, 6, 46, 160, 0, 13, 21, 4, 44]
abbrev dktX3_takesSnapshot_4 : List UInt8 := dkwX3_takesSnapshot_4 ++ dktX3_takesSnapshot_5
def dkwX3_takesSnapshot_3 : List UInt8 := [44, 180, 0, 170, 42, 180, 0, 42, 16, 7, 46, 3, 182, 0, 243, 177, 44, 44, 21, 4, 182, 1, 1]
abbrev dktX3_takesSnapshot_3 : List UInt8 := dkwX3_takesSnapshot_3 ++ dktX3_takesSnapshot_4
def dkwX3_takesSnapshot_2 : List UInt8 := [182, 0, 80, 42, 180, 0, 42, 8, 46, 54, 4, 21, 4, 44, 180, 0, 170, 163, 0, 23, 42, 27, 29, 8]
abbrev dktX3_takesSnapshot_2 : List UInt8 := dkwX3_takesSnapshot_2 ++ dktX3_takesSnapshot_3
def dkwX3_takesSnapshot_1 : List UInt8 := [162, 0, 14, 42, 27, 29, 8, 3, 3, 3, 182, 0, 243, 177, 42, 27, 29, 182, 1, 5, 42, 27]
abbrev dktX3_takesSnapshot_1 : List UInt8 := dkwX3_takesSnapshot_1 ++ dktX3_takesSnapshot_2
def dkwX3_takesSnapshot_0 : List UInt8 := [42, 180, 0, 17, 27, 50, 77, 42, 180, 0, 42, 3, 46, 62, 42, 180, 0, 42, 6, 46, 44, 180, 0, 92]
abbrev dktX3_takesSnapshot_0 : List UInt8 := dkwX3_takesSnapshot_0 ++ dktX3_takesSnapshot_1
theorem dksX3_takesSnapshot_0 : cX3_takesSnapshot.data.toList.drop 0 = dktX3_takesSnapshot_0 := by decide +kernel
theorem dksX3_takesSnapshot_1 : cX3_takesSnapshot.data.toList.drop 24 = dktX3_takesSnapshot_1 := dk_seg dksX3_takesSnapshot_0 24 rfl rfl
theorem dksX3_takesSnapshot_2 : cX3_takesSnapshot.data.toList.drop 46 = dktX3_takesSnapshot_2 := dk_seg dksX3_takesSnapshot_1 22 rfl rfl
theorem dksX3_takesSnapshot_3 : cX3_takesSnapshot.data.toList.drop 70 = dktX3_takesSnapshot_3 := dk_seg dksX3_takesSnapshot_2 24 rfl rfl
theorem dksX3_takesSnapshot_4 : cX3_takesSnapshot.data.toList.drop 93 = dktX3_takesSnapshot_4 := dk_seg dksX3_takesSnapshot_3 23 rfl rfl
theorem dksX3_takesSnapshot_5 : cX3_takesSnapshot.data.toList.drop 115 = dktX3_takesSnapshot_5 := dk_seg dksX3_takesSnapshot_4 22 rfl rfl
theorem dksX3_takesSnapshot_6 : cX3_takesSnapshot.data.toList.drop 137 = dktX3_takesSnapshot_6 := dk_seg dksX3_takesSnapshot_5 22 rfl rfl
theorem dksX3_takesSnapshot_7 : cX3_takesSnapshot.data.toList.drop 159 = dktX3_takesSnapshot_7 := dk_seg dksX3_takesSnapshot_6 22 rfl rfl
theorem dksX3_takesSnapshot_8 : cX3_takesSnapshot.data.toList.drop 181 = dktX3_takesSnapshot_8 := dk_seg dksX3_takesSnapshot_7 22 rfl rfl
theorem dksX3_takesSnapshot_9 : cX3_takesSnapshot.data.toList.drop 205 = dktX3_takesSnapshot_9 := dk_seg dksX3_takesSnapshot_8 24 rfl rfl
theorem dksX3_takesSnapshot_10 : cX3_takesSnapshot.data.toList.drop 228 = dktX3_takesSnapshot_10 := dk_seg dksX3_takesSnapshot_9 23 rfl rfl
theorem dX3_takesSnapshot_0 : decode cX3_takesSnapshot 0 = .ok (.aload_n 0, 1) := dk_42 (dk_at dksX3_takesSnapshot_0 0 rfl rfl)
theorem dX3_takesSnapshot_1 : decode cX3_takesSnapshot 1 = .ok (.getfield 17, 3) := dk_180 0 17 (dk_at dksX3_takesSnapshot_0 1 rfl rfl)
theorem dX3_takesSnapshot_4 : decode cX3_takesSnapshot 4 = .ok (.iload_n 1, 1) := dk_27 (dk_at dksX3_takesSnapshot_0 4 rfl rfl)
theorem dX3_takesSnapshot_5 : decode cX3_takesSnapshot 5 = .ok (.aaload, 1) := dk_50 (dk_at dksX3_takesSnapshot_0 5 rfl rfl)
theorem dX3_takesSnapshot_6 : decode cX3_takesSnapshot 6 = .ok (.astore_n 2, 1) := dk_77 (dk_at dksX3_takesSnapshot_0 6 rfl rfl)
theorem dX3_takesSnapshot_7 : decode cX3_takesSnapshot 7 = .ok (.aload_n 0, 1) := dk_42 (dk_at dksX3_takesSnapshot_0 7 rfl rfl)
theorem dX3_takesSnapshot_8 : decode cX3_takesSnapshot 8 = .ok (.getfield 42, 3) := dk_180 0 42 (dk_at dksX3_takesSnapshot_0 8 rfl rfl)
theorem dX3_takesSnapshot_11 : decode cX3_takesSnapshot 11 = .ok (.iconst 0, 1) := dk_3 (dk_at dksX3_takesSnapshot_0 11 rfl rfl)
theorem dX3_takesSnapshot_12 : decode cX3_takesSnapshot 12 = .ok (.iaload, 1) := dk_46 (dk_at dksX3_takesSnapshot_0 12 rfl rfl)
theorem dX3_takesSnapshot_13 : decode cX3_takesSnapshot 13 = .ok (.istore_n 3, 1) := dk_62 (dk_at dksX3_takesSnapshot_0 13 rfl rfl)
theorem dX3_takesSnapshot_14 : decode cX3_takesSnapshot 14 = .ok (.aload_n 0, 1) := dk_42 (dk_at dksX3_takesSnapshot_0 14 rfl rfl)
theorem dX3_takesSnapshot_15 : decode cX3_takesSnapshot 15 = .ok (.getfield 42, 3) := dk_180 0 42 (dk_at dksX3_takesSnapshot_0 15 rfl rfl)
theorem dX3_takesSnapshot_18 : decode cX3_takesSnapshot 18 = .ok (.iconst 3, 1) := dk_6 (dk_at dksX3_takesSnapshot_0 18 rfl rfl)
theorem dX3_takesSnapshot_19 : decode cX3_takesSnapshot 19 = .ok (.iaload, 1) := dk_46 (dk_at dksX3_takesSnapshot_0 19 rfl rfl)
theorem dX3_takesSnapshot_20 : decode cX3_takesSnapshot 20 = .ok (.aload_n 2, 1) := dk_44 (dk_at dksX3_takesSnapshot_0 20 rfl rfl)
theorem dX3_takesSnapshot_21 : decode cX3_takesSnapshot 21 = .ok (.getfield 92, 3) := dk_180 0 92 (dk_at dksX3_takesSnapshot_0 21 rfl rfl)
theorem dX3_takesSnapshot_24 : decode cX3_takesSnapshot 24 = .ok (.if_icmp .ge 14, 3) := dk_162 0 14 (dk_at dksX3_takesSnapshot_1 0 rfl rfl)
theorem dX3_takesSnapshot_27 : decode cX3_takesSnapshot 27 = .ok (.aload_n 0, 1) := dk_42 (dk_at dksX3_takesSnapshot_1 3 rfl rfl)
theorem dX3_takesSnapshot_28 : decode cX3_takesSnapshot 28 = .ok (.iload_n 1, 1) := dk_27 (dk_at dksX3_takesSnapshot_1 4 rfl rfl)
theorem dX3_takesSnapshot_29 : decode cX3_takesSnapshot 29 = .ok (.iload_n 3, 1) := dk_29 (dk_at dksX3_takesSnapshot_1 5 rfl rfl)
theorem dX3_takesSnapshot_30 : decode cX3_takesSnapshot 30 = .ok (.iconst 5, 1) := dk_8 (dk_at dksX3_takesSnapshot_1 6 rfl rfl)
theorem dX3_takesSnapshot_31 : decode cX3_takesSnapshot 31 = .ok (.iconst 0, 1) := dk_3 (dk_at dksX3_takesSnapshot_1 7 rfl rfl)
theorem dX3_takesSnapshot_32 : decode cX3_takesSnapshot 32 = .ok (.iconst 0, 1) := dk_3 (dk_at dksX3_takesSnapshot_1 8 rfl rfl)
theorem dX3_takesSnapshot_33 : decode cX3_takesSnapshot 33 = .ok (.iconst 0, 1) := dk_3 (dk_at dksX3_takesSnapshot_1 9 rfl rfl)
theorem dX3_takesSnapshot_34 : decode cX3_takesSnapshot 34 = .ok (.invokevirtual 243, 3) := dk_182 0 243 (dk_at dksX3_takesSnapshot_1 10 rfl rfl)
theorem dX3_takesSnapshot_37 : decode cX3_takesSnapshot 37 = .ok (.return_, 1) := dk_177 (dk_at dksX3_takesSnapshot_1 13 rfl rfl)
theorem dX3_takesSnapshot_38 : decode cX3_takesSnapshot 38 = .ok (.aload_n 0, 1) := dk_42 (dk_at dksX3_takesSnapshot_1 14 rfl rfl)
theorem dX3_takesSnapshot_39 : decode cX3_takesSnapshot 39 = .ok (.iload_n 1, 1) := dk_27 (dk_at dksX3_takesSnapshot_1 15 rfl rfl)
theorem dX3_takesSnapshot_40 : decode cX3_takesSnapshot 40 = .ok (.iload_n 3, 1) := dk_29 (dk_at dksX3_takesSnapshot_1 16 rfl rfl)
theorem dX3_takesSnapshot_41 : decode cX3_takesSnapshot 41 = .ok (.invokevirtual 261, 3) := dk_182 1 5 (dk_at dksX3_takesSnapshot_1 17 rfl rfl)
theorem dX3_takesSnapshot_44 : decode cX3_takesSnapshot 44 = .ok (.aload_n 0, 1) := dk_42 (dk_at dksX3_takesSnapshot_1 20 rfl rfl)
theorem dX3_takesSnapshot_45 : decode cX3_takesSnapshot 45 = .ok (.iload_n 1, 1) := dk_27 (dk_at dksX3_takesSnapshot_1 21 rfl rfl)
theorem dX3_takesSnapshot_46 : decode cX3_takesSnapshot 46 = .ok (.invokevirtual 80, 3) := dk_182 0 80 (dk_at dksX3_takesSnapshot_2 0 rfl rfl)
theorem dX3_takesSnapshot_49 : decode cX3_takesSnapshot 49 = .ok (.aload_n 0, 1) := dk_42 (dk_at dksX3_takesSnapshot_2 3 rfl rfl)
theorem dX3_takesSnapshot_50 : decode cX3_takesSnapshot 50 = .ok (.getfield 42, 3) := dk_180 0 42 (dk_at dksX3_takesSnapshot_2 4 rfl rfl)
theorem dX3_takesSnapshot_53 : decode cX3_takesSnapshot 53 = .ok (.iconst 5, 1) := dk_8 (dk_at dksX3_takesSnapshot_2 7 rfl rfl)
theorem dX3_takesSnapshot_54 : decode cX3_takesSnapshot 54 = .ok (.iaload, 1) := dk_46 (dk_at dksX3_takesSnapshot_2 8 rfl rfl)
theorem dX3_takesSnapshot_55 : decode cX3_takesSnapshot 55 = .ok (.istore 4, 2) := dk_54 4 (dk_at dksX3_takesSnapshot_2 9 rfl rfl)
theorem dX3_takesSnapshot_57 : decode cX3_takesSnapshot 57 = .ok (.iload 4, 2) := dk_21 4 (dk_at dksX3_takesSnapshot_2 11 rfl rfl)
theorem dX3_takesSnapshot_59 : decode cX3_takesSnapshot 59 = .ok (.aload_n 2, 1) := dk_44 (dk_at dksX3_takesSnapshot_2 13 rfl rfl)
theorem dX3_takesSnapshot_60 : decode cX3_takesSnapshot 60 = .ok (.getfield 170, 3) := dk_180 0 170 (dk_at dksX3_takesSnapshot_2 14 rfl rfl)
theorem dX3_takesSnapshot_63 : decode cX3_takesSnapshot 63 = .ok (.if_icmp .gt 23, 3) := dk_163 0 23 (dk_at dksX3_takesSnapshot_2 17 rfl rfl)
theorem dX3_takesSnapshot_66 : decode cX3_takesSnapshot 66 = .ok (.aload_n 0, 1) := dk_42 (dk_at dksX3_takesSnapshot_2 20 rfl rfl)
theorem dX3_takesSnapshot_67 : decode cX3_takesSnapshot 67 = .ok (.iload_n 1, 1) := dk_27 (dk_at dksX3_takesSnapshot_2 21 rfl rfl)
theorem dX3_takesSnapshot_68 : decode cX3_takesSnapshot 68 = .ok (.iload_n 3, 1) := dk_29 (dk_at dksX3_takesSnapshot_2 22 rfl rfl)
theorem dX3_takesSnapshot_69 : decode cX3_takesSnapshot 69 = .ok (.iconst 5, 1) := dk_8 (dk_at dksX3_takesSnapshot_2 23 rfl rfl)
theorem dX3_takesSnapshot_70 : decode cX3_takesSnapshot 70 = .ok (.aload_n 2, 1) := dk_44 (dk_at dksX3_takesSnapshot_3 0 rfl rfl)
theorem dX3_takesSnapshot_71 : decode cX3_takesSnapshot 71 = .ok (.getfield 170, 3) := dk_180 0 170 (dk_at dksX3_takesSnapshot_3 1 rfl rfl)
theorem dX3_takesSnapshot_74 : decode cX3_takesSnapshot 74 = .ok (.aload_n 0, 1) := dk_42 (dk_at dksX3_takesSnapshot_3 4 rfl rfl)
theorem dX3_takesSnapshot_75 : decode cX3_takesSnapshot 75 = .ok (.getfield 42, 3) := dk_180 0 42 (dk_at dksX3_takesSnapshot_3 5 rfl rfl)
theorem dX3_takesSnapshot_78 : decode cX3_takesSnapshot 78 = .ok (.bipush 7, 2) := dk_16 7 (dk_at dksX3_takesSnapshot_3 8 rfl rfl)
theorem dX3_takesSnapshot_80 : decode cX3_takesSnapshot 80 = .ok (.iaload, 1) := dk_46 (dk_at dksX3_takesSnapshot_3 10 rfl rfl)
theorem dX3_takesSnapshot_81 : decode cX3_takesSnapshot 81 = .ok (.iconst 0, 1) := dk_3 (dk_at dksX3_takesSnapshot_3 11 rfl rfl)
theorem dX3_takesSnapshot_82 : decode cX3_takesSnapshot 82 = .ok (.invokevirtual 243, 3) := dk_182 0 243 (dk_at dksX3_takesSnapshot_3 12 rfl rfl)
theorem dX3_takesSnapshot_85 : decode cX3_takesSnapshot 85 = .ok (.return_, 1) := dk_177 (dk_at dksX3_takesSnapshot_3 15 rfl rfl)
theorem dX3_takesSnapshot_86 : decode cX3_takesSnapshot 86 = .ok (.aload_n 2, 1) := dk_44 (dk_at dksX3_takesSnapshot_3 16 rfl rfl)
theorem dX3_takesSnapshot_87 : decode cX3_takesSnapshot 87 = .ok (.aload_n 2, 1) := dk_44 (dk_at dksX3_takesSnapshot_3 17 rfl rfl)
theorem dX3_takesSnapshot_88 : decode cX3_takesSnapshot 88 = .ok (.iload 4, 2) := dk_21 4 (dk_at dksX3_takesSnapshot_3 18 rfl rfl)
theorem dX3_takesSnapshot_90 : decode cX3_takesSnapshot 90 = .ok (.invokevirtual 257, 3) := dk_182 1 1 (dk_at dksX3_takesSnapshot_3 20 rfl rfl)
theorem dX3_takesSnapshot_93 : decode cX3_takesSnapshot 93 = .ok (.ifCond .eq 29, 3) := dk_153 0 29 (dk_at dksX3_takesSnapshot_4 0 rfl rfl)
theorem dX3_takesSnapshot_96 : decode cX3_takesSnapshot 96 = .ok (.aload_n 2, 1) := dk_44 (dk_at dksX3_takesSnapshot_4 3 rfl rfl)
theorem dX3_takesSnapshot_97 : decode cX3_takesSnapshot 97 = .ok (.iload 4, 2) := dk_21 4 (dk_at dksX3_takesSnapshot_4 4 rfl rfl)
theorem dX3_takesSnapshot_99 : decode cX3_takesSnapshot 99 = .ok (.invokevirtual 166, 3) := dk_182 0 166 (dk_at dksX3_takesSnapshot_4 6 rfl rfl)
theorem dX3_takesSnapshot_102 : decode cX3_takesSnapshot 102 = .ok (.aload_n 0, 1) := dk_42 (dk_at dksX3_takesSnapshot_4 9 rfl rfl)
theorem dX3_takesSnapshot_103 : decode cX3_takesSnapshot 103 = .ok (.getfield 42, 3) := dk_180 0 42 (dk_at dksX3_takesSnapshot_4 10 rfl rfl)
theorem dX3_takesSnapshot_106 : decode cX3_takesSnapshot 106 = .ok (.bipush 6, 2) := dk_16 6 (dk_at dksX3_takesSnapshot_4 13 rfl rfl)
theorem dX3_takesSnapshot_108 : decode cX3_takesSnapshot 108 = .ok (.iaload, 1) := dk_46 (dk_at dksX3_takesSnapshot_4 15 rfl rfl)
theorem dX3_takesSnapshot_109 : decode cX3_takesSnapshot 109 = .ok (.if_icmp .ne 13, 3) := dk_160 0 13 (dk_at dksX3_takesSnapshot_4 16 rfl rfl)
theorem dX3_takesSnapshot_112 : decode cX3_takesSnapshot 112 = .ok (.iload 4, 2) := dk_21 4 (dk_at dksX3_takesSnapshot_4 19 rfl rfl)
theorem dX3_takesSnapshot_114 : decode cX3_takesSnapshot 114 = .ok (.aload_n 2, 1) := dk_44 (dk_at dksX3_takesSnapshot_4 21 rfl rfl)
theorem dX3_takesSnapshot_115 : decode cX3_takesSnapshot 115 = .ok (.getfield 148, 3) := dk_180 0 148 (dk_at dksX3_takesSnapshot_5 0 rfl rfl)
theorem dX3_takesSnapshot_118 : decode cX3_takesSnapshot 118 = .ok (.isub, 1) := dk_100 (dk_at dksX3_takesSnapshot_5 3 rfl rfl)
theorem dX3_takesSnapshot_119 : decode cX3_takesSnapshot 119 = .ok (.goto 7, 3) := dk_167 0 7 (dk_at dksX3_takesSnapshot_5 4 rfl rfl)
theorem dX3_takesSnapshot_122 : decode cX3_takesSnapshot 122 = .ok (.aload_n 2, 1) := dk_44 (dk_at dksX3_takesSnapshot_5 7 rfl rfl)
theorem dX3_takesSnapshot_123 : decode cX3_takesSnapshot 123 = .ok (.getfield 260, 3) := dk_180 1 4 (dk_at dksX3_takesSnapshot_5 8 rfl rfl)
theorem dX3_takesSnapshot_126 : decode cX3_takesSnapshot 126 = .ok (.invokevirtual 274, 3) := dk_182 1 18 (dk_at dksX3_takesSnapshot_5 11 rfl rfl)
theorem dX3_takesSnapshot_129 : decode cX3_takesSnapshot 129 = .ok (.aload_n 2, 1) := dk_44 (dk_at dksX3_takesSnapshot_5 14 rfl rfl)
theorem dX3_takesSnapshot_130 : decode cX3_takesSnapshot 130 = .ok (.iload 4, 2) := dk_21 4 (dk_at dksX3_takesSnapshot_5 15 rfl rfl)
theorem dX3_takesSnapshot_132 : decode cX3_takesSnapshot 132 = .ok (.putfield 148, 3) := dk_181 0 148 (dk_at dksX3_takesSnapshot_5 17 rfl rfl)
theorem dX3_takesSnapshot_135 : decode cX3_takesSnapshot 135 = .ok (.aload_n 2, 1) := dk_44 (dk_at dksX3_takesSnapshot_5 20 rfl rfl)
theorem dX3_takesSnapshot_136 : decode cX3_takesSnapshot 136 = .ok (.aload_n 0, 1) := dk_42 (dk_at dksX3_takesSnapshot_5 21 rfl rfl)
theorem dX3_takesSnapshot_137 : decode cX3_takesSnapshot 137 = .ok (.getfield 42, 3) := dk_180 0 42 (dk_at dksX3_takesSnapshot_6 0 rfl rfl)
theorem dX3_takesSnapshot_140 : decode cX3_takesSnapshot 140 = .ok (.bipush 6, 2) := dk_16 6 (dk_at dksX3_takesSnapshot_6 3 rfl rfl)
theorem dX3_takesSnapshot_142 : decode cX3_takesSnapshot 142 = .ok (.iaload, 1) := dk_46 (dk_at dksX3_takesSnapshot_6 5 rfl rfl)
theorem dX3_takesSnapshot_143 : decode cX3_takesSnapshot 143 = .ok (.putfield 151, 3) := dk_181 0 151 (dk_at dksX3_takesSnapshot_6 6 rfl rfl)
theorem dX3_takesSnapshot_146 : decode cX3_takesSnapshot 146 = .ok (.aload_n 2, 1) := dk_44 (dk_at dksX3_takesSnapshot_6 9 rfl rfl)
theorem dX3_takesSnapshot_147 : decode cX3_takesSnapshot 147 = .ok (.aload_n 0, 1) := dk_42 (dk_at dksX3_takesSnapshot_6 10 rfl rfl)
theorem dX3_takesSnapshot_148 : decode cX3_takesSnapshot 148 = .ok (.getfield 42, 3) := dk_180 0 42 (dk_at dksX3_takesSnapshot_6 11 rfl rfl)
theorem dX3_takesSnapshot_151 : decode cX3_takesSnapshot 151 = .ok (.bipush 10, 2) := dk_16 10 (dk_at dksX3_takesSnapshot_6 14 rfl rfl)
theorem dX3_takesSnapshot_153 : decode cX3_takesSnapshot 153 = .ok (.iaload, 1) := dk_46 (dk_at dksX3_takesSnapshot_6 16 rfl rfl)
theorem dX3_takesSnapshot_154 : decode cX3_takesSnapshot 154 = .ok (.putfield 157, 3) := dk_181 0 157 (dk_at dksX3_takesSnapshot_6 17 rfl rfl)
theorem dX3_takesSnapshot_157 : decode cX3_takesSnapshot 157 = .ok (.aload_n 2, 1) := dk_44 (dk_at dksX3_takesSnapshot_6 20 rfl rfl)
theorem dX3_takesSnapshot_158 : decode cX3_takesSnapshot 158 = .ok (.aload_n 0, 1) := dk_42 (dk_at dksX3_takesSnapshot_6 21 rfl rfl)
theorem dX3_takesSnapshot_159 : decode cX3_takesSnapshot 159 = .ok (.getfield 42, 3) := dk_180 0 42 (dk_at dksX3_takesSnapshot_7 0 rfl rfl)
theorem dX3_takesSnapshot_162 : decode cX3_takesSnapshot 162 = .ok (.bipush 11, 2) := dk_16 11 (dk_at dksX3_takesSnapshot_7 3 rfl rfl)
theorem dX3_takesSnapshot_164 : decode cX3_takesSnapshot 164 = .ok (.iaload, 1) := dk_46 (dk_at dksX3_takesSnapshot_7 5 rfl rfl)
theorem dX3_takesSnapshot_165 : decode cX3_takesSnapshot 165 = .ok (.putfield 160, 3) := dk_181 0 160 (dk_at dksX3_takesSnapshot_7 6 rfl rfl)
theorem dX3_takesSnapshot_168 : decode cX3_takesSnapshot 168 = .ok (.aload_n 2, 1) := dk_44 (dk_at dksX3_takesSnapshot_7 9 rfl rfl)
theorem dX3_takesSnapshot_169 : decode cX3_takesSnapshot 169 = .ok (.iload 4, 2) := dk_21 4 (dk_at dksX3_takesSnapshot_7 10 rfl rfl)
theorem dX3_takesSnapshot_171 : decode cX3_takesSnapshot 171 = .ok (.putfield 170, 3) := dk_181 0 170 (dk_at dksX3_takesSnapshot_7 12 rfl rfl)
theorem dX3_takesSnapshot_174 : decode cX3_takesSnapshot 174 = .ok (.iconst 0, 1) := dk_3 (dk_at dksX3_takesSnapshot_7 15 rfl rfl)
theorem dX3_takesSnapshot_175 : decode cX3_takesSnapshot 175 = .ok (.istore 5, 2) := dk_54 5 (dk_at dksX3_takesSnapshot_7 16 rfl rfl)
theorem dX3_takesSnapshot_177 : decode cX3_takesSnapshot 177 = .ok (.iload 5, 2) := dk_21 5 (dk_at dksX3_takesSnapshot_7 18 rfl rfl)
theorem dX3_takesSnapshot_179 : decode cX3_takesSnapshot 179 = .ok (.bipush 8, 2) := dk_16 8 (dk_at dksX3_takesSnapshot_7 20 rfl rfl)
theorem dX3_takesSnapshot_181 : decode cX3_takesSnapshot 181 = .ok (.if_icmp .ge 40, 3) := dk_162 0 40 (dk_at dksX3_takesSnapshot_8 0 rfl rfl)
theorem dX3_takesSnapshot_184 : decode cX3_takesSnapshot 184 = .ok (.aload_n 2, 1) := dk_44 (dk_at dksX3_takesSnapshot_8 3 rfl rfl)
theorem dX3_takesSnapshot_185 : decode cX3_takesSnapshot 185 = .ok (.getfield 163, 3) := dk_180 0 163 (dk_at dksX3_takesSnapshot_8 4 rfl rfl)
theorem dX3_takesSnapshot_188 : decode cX3_takesSnapshot 188 = .ok (.iload 5, 2) := dk_21 5 (dk_at dksX3_takesSnapshot_8 7 rfl rfl)
theorem dX3_takesSnapshot_190 : decode cX3_takesSnapshot 190 = .ok (.aload_n 0, 1) := dk_42 (dk_at dksX3_takesSnapshot_8 9 rfl rfl)
theorem dX3_takesSnapshot_191 : decode cX3_takesSnapshot 191 = .ok (.getfield 42, 3) := dk_180 0 42 (dk_at dksX3_takesSnapshot_8 10 rfl rfl)
theorem dX3_takesSnapshot_194 : decode cX3_takesSnapshot 194 = .ok (.bipush 12, 2) := dk_16 12 (dk_at dksX3_takesSnapshot_8 13 rfl rfl)
theorem dX3_takesSnapshot_196 : decode cX3_takesSnapshot 196 = .ok (.iload 5, 2) := dk_21 5 (dk_at dksX3_takesSnapshot_8 15 rfl rfl)
theorem dX3_takesSnapshot_198 : decode cX3_takesSnapshot 198 = .ok (.iadd, 1) := dk_96 (dk_at dksX3_takesSnapshot_8 17 rfl rfl)
theorem dX3_takesSnapshot_199 : decode cX3_takesSnapshot 199 = .ok (.iaload, 1) := dk_46 (dk_at dksX3_takesSnapshot_8 18 rfl rfl)
theorem dX3_takesSnapshot_200 : decode cX3_takesSnapshot 200 = .ok (.iastore, 1) := dk_79 (dk_at dksX3_takesSnapshot_8 19 rfl rfl)
theorem dX3_takesSnapshot_201 : decode cX3_takesSnapshot 201 = .ok (.aload_n 2, 1) := dk_44 (dk_at dksX3_takesSnapshot_8 20 rfl rfl)
theorem dX3_takesSnapshot_202 : decode cX3_takesSnapshot 202 = .ok (.getfield 251, 3) := dk_180 0 251 (dk_at dksX3_takesSnapshot_8 21 rfl rfl)
theorem dX3_takesSnapshot_205 : decode cX3_takesSnapshot 205 = .ok (.iload 5, 2) := dk_21 5 (dk_at dksX3_takesSnapshot_9 0 rfl rfl)
theorem dX3_takesSnapshot_207 : decode cX3_takesSnapshot 207 = .ok (.aload_n 2, 1) := dk_44 (dk_at dksX3_takesSnapshot_9 2 rfl rfl)
theorem dX3_takesSnapshot_208 : decode cX3_takesSnapshot 208 = .ok (.getfield 163, 3) := dk_180 0 163 (dk_at dksX3_takesSnapshot_9 3 rfl rfl)
theorem dX3_takesSnapshot_211 : decode cX3_takesSnapshot 211 = .ok (.iload 5, 2) := dk_21 5 (dk_at dksX3_takesSnapshot_9 6 rfl rfl)
theorem dX3_takesSnapshot_213 : decode cX3_takesSnapshot 213 = .ok (.iaload, 1) := dk_46 (dk_at dksX3_takesSnapshot_9 8 rfl rfl)
theorem dX3_takesSnapshot_214 : decode cX3_takesSnapshot 214 = .ok (.iastore, 1) := dk_79 (dk_at dksX3_takesSnapshot_9 9 rfl rfl)
theorem dX3_takesSnapshot_215 : decode cX3_takesSnapshot 215 = .ok (.iinc 5 1, 3) := dk_132 5 1 (dk_at dksX3_takesSnapshot_9 10 rfl rfl)
theorem dX3_takesSnapshot_218 : decode cX3_takesSnapshot 218 = .ok (.goto (-41), 3) := dk_167 255 215 (dk_at dksX3_takesSnapshot_9 13 rfl rfl)
theorem dX3_takesSnapshot_221 : decode cX3_takesSnapshot 221 = .ok (.aload_n 0, 1) := dk_42 (dk_at dksX3_takesSnapshot_9 16 rfl rfl)
theorem dX3_takesSnapshot_222 : decode cX3_takesSnapshot 222 = .ok (.iload_n 1, 1) := dk_27 (dk_at dksX3_takesSnapshot_9 17 rfl rfl)
theorem dX3_takesSnapshot_223 : decode cX3_takesSnapshot 223 = .ok (.iload_n 3, 1) := dk_29 (dk_at dksX3_takesSnapshot_9 18 rfl rfl)
theorem dX3_takesSnapshot_224 : decode cX3_takesSnapshot 224 = .ok (.iconst 5, 1) := dk_8 (dk_at dksX3_takesSnapshot_9 19 rfl rfl)
theorem dX3_takesSnapshot_225 : decode cX3_takesSnapshot 225 = .ok (.iload 4, 2) := dk_21 4 (dk_at dksX3_takesSnapshot_9 20 rfl rfl)
theorem dX3_takesSnapshot_227 : decode cX3_takesSnapshot 227 = .ok (.aload_n 0, 1) := dk_42 (dk_at dksX3_takesSnapshot_9 22 rfl rfl)
theorem dX3_takesSnapshot_228 : decode cX3_takesSnapshot 228 = .ok (.getfield 42, 3) := dk_180 0 42 (dk_at dksX3_takesSnapshot_10 0 rfl rfl)
theorem dX3_takesSnapshot_231 : decode cX3_takesSnapshot 231 = .ok (.bipush 7, 2) := dk_16 7 (dk_at dksX3_takesSnapshot_10 3 rfl rfl)
theorem dX3_takesSnapshot_233 : decode cX3_takesSnapshot 233 = .ok (.iaload, 1) := dk_46 (dk_at dksX3_takesSnapshot_10 5 rfl rfl)
theorem dX3_takesSnapshot_234 : decode cX3_takesSnapshot 234 = .ok (.iconst 0, 1) := dk_3 (dk_at dksX3_takesSnapshot_10 6 rfl rfl)
theorem dX3_takesSnapshot_235 : decode cX3_takesSnapshot 235 = .ok (.invokevirtual 243, 3) := dk_182 0 243 (dk_at dksX3_takesSnapshot_10 7 rfl rfl)
theorem dX3_takesSnapshot_238 : decode cX3_takesSnapshot 238 = .ok (.return_, 1) := dk_177 (dk_at dksX3_takesSnapshot_10 10 rfl rfl)
abbrev cX3_isAnswered : ByteArray := prog_3_method_27_code
def yX3_isAnswered : MethodName := ⟨RX3, "isAnswered", "(I)V"⟩
def dkwX3_isAnswered_6 : List UInt8 := [182, 0, 195, 44, 180, 0, 199, 5, 160, 0, 8, 42, 27, 182, 1, 28, 177]
abbrev dktX3_isAnswered_6 : List UInt8 := dkwX3_isAnswered_6 ++ []
def dkwX3_isAnswered_5 : List UInt8 := [96, 44, 180, 0, 145, 29, 46, 42, 180, 0, 42, 16, 6, 46, 184, 0, 115, 184, 0, 121, 79, 42, 27, 29]
abbrev dktX3_isAnswered_5 : List UInt8 := dkwX3_isAnswered_5 ++ dktX3_isAnswered_6
def dkwX3_isAnswered_4 : List UInt8 := [46, 42, 180, 0, 42, 16, 7, 46, 184, 0, 121, 79, 44, 180, 0, 145, 29, 44, 180, 0, 221, 29, 46, 4]
abbrev dktX3_isAnswered_4 : List UInt8 := dkwX3_isAnswered_4 ++ dktX3_isAnswered_5
def dkwX3_isAnswered_3 : List UInt8 := [46, 42, 180, 0, 42, 16, 7, 46, 182, 1, 24, 167, 0, 64, 44, 180, 0, 224, 29, 44, 180, 0, 224, 29]
abbrev dktX3_isAnswered_3 : List UInt8 := dkwX3_isAnswered_3 ++ dktX3_isAnswered_4
def dkwX3_isAnswered_2 : List UInt8 := [182, 1, 24, 167, 0, 96, 42, 180, 0, 42, 8, 46, 4, 160, 0, 25, 42, 27, 42, 180, 0, 42, 16, 6]
abbrev dktX3_isAnswered_2 : List UInt8 := dkwX3_isAnswered_2 ++ dktX3_isAnswered_3
def dkwX3_isAnswered_1 : List UInt8 := [180, 0, 42, 5, 46, 8, 160, 0, 24, 42, 27, 42, 180, 0, 42, 8, 46, 42, 180, 0, 42, 16, 6, 46]
abbrev dktX3_isAnswered_1 : List UInt8 := dkwX3_isAnswered_1 ++ dktX3_isAnswered_2
def dkwX3_isAnswered_0 : List UInt8 := [42, 27, 182, 1, 21, 154, 0, 4, 177, 42, 180, 0, 17, 27, 50, 77, 42, 180, 0, 42, 3, 46, 62, 42]
abbrev dktX3_isAnswered_0 : List UInt8 := dkwX3_isAnswered_0 ++ dktX3_isAnswered_1
theorem dksX3_isAnswered_0 : cX3_isAnswered.data.toList.drop 0 = dktX3_isAnswered_0 := by decide +kernel
theorem dksX3_isAnswered_1 : cX3_isAnswered.data.toList.drop 24 = dktX3_isAnswered_1 := dk_seg dksX3_isAnswered_0 24 rfl rfl
theorem dksX3_isAnswered_2 : cX3_isAnswered.data.toList.drop 48 = dktX3_isAnswered_2 := dk_seg dksX3_isAnswered_1 24 rfl rfl
theorem dksX3_isAnswered_3 : cX3_isAnswered.data.toList.drop 72 = dktX3_isAnswered_3 := dk_seg dksX3_isAnswered_2 24 rfl rfl
theorem dksX3_isAnswered_4 : cX3_isAnswered.data.toList.drop 96 = dktX3_isAnswered_4 := dk_seg dksX3_isAnswered_3 24 rfl rfl
theorem dksX3_isAnswered_5 : cX3_isAnswered.data.toList.drop 120 = dktX3_isAnswered_5 := dk_seg dksX3_isAnswered_4 24 rfl rfl
theorem dksX3_isAnswered_6 : cX3_isAnswered.data.toList.drop 144 = dktX3_isAnswered_6 := dk_seg dksX3_isAnswered_5 24 rfl rfl
theorem dX3_isAnswered_0 : decode cX3_isAnswered 0 = .ok (.aload_n 0, 1) := dk_42 (dk_at dksX3_isAnswered_0 0 rfl rfl)
theorem dX3_isAnswered_1 : decode cX3_isAnswered 1 = .ok (.iload_n 1, 1) := dk_27 (dk_at dksX3_isAnswered_0 1 rfl rfl)
theorem dX3_isAnswered_2 : decode cX3_isAnswered 2 = .ok (.invokevirtual 277, 3) := dk_182 1 21 (dk_at dksX3_isAnswered_0 2 rfl rfl)
theorem dX3_isAnswered_5 : decode cX3_isAnswered 5 = .ok (.ifCond .ne 4, 3) := dk_154 0 4 (dk_at dksX3_isAnswered_0 5 rfl rfl)
theorem dX3_isAnswered_8 : decode cX3_isAnswered 8 = .ok (.return_, 1) := dk_177 (dk_at dksX3_isAnswered_0 8 rfl rfl)
theorem dX3_isAnswered_9 : decode cX3_isAnswered 9 = .ok (.aload_n 0, 1) := dk_42 (dk_at dksX3_isAnswered_0 9 rfl rfl)
theorem dX3_isAnswered_10 : decode cX3_isAnswered 10 = .ok (.getfield 17, 3) := dk_180 0 17 (dk_at dksX3_isAnswered_0 10 rfl rfl)
theorem dX3_isAnswered_13 : decode cX3_isAnswered 13 = .ok (.iload_n 1, 1) := dk_27 (dk_at dksX3_isAnswered_0 13 rfl rfl)
theorem dX3_isAnswered_14 : decode cX3_isAnswered 14 = .ok (.aaload, 1) := dk_50 (dk_at dksX3_isAnswered_0 14 rfl rfl)
theorem dX3_isAnswered_15 : decode cX3_isAnswered 15 = .ok (.astore_n 2, 1) := dk_77 (dk_at dksX3_isAnswered_0 15 rfl rfl)
theorem dX3_isAnswered_16 : decode cX3_isAnswered 16 = .ok (.aload_n 0, 1) := dk_42 (dk_at dksX3_isAnswered_0 16 rfl rfl)
theorem dX3_isAnswered_17 : decode cX3_isAnswered 17 = .ok (.getfield 42, 3) := dk_180 0 42 (dk_at dksX3_isAnswered_0 17 rfl rfl)
theorem dX3_isAnswered_20 : decode cX3_isAnswered 20 = .ok (.iconst 0, 1) := dk_3 (dk_at dksX3_isAnswered_0 20 rfl rfl)
theorem dX3_isAnswered_21 : decode cX3_isAnswered 21 = .ok (.iaload, 1) := dk_46 (dk_at dksX3_isAnswered_0 21 rfl rfl)
theorem dX3_isAnswered_22 : decode cX3_isAnswered 22 = .ok (.istore_n 3, 1) := dk_62 (dk_at dksX3_isAnswered_0 22 rfl rfl)
theorem dX3_isAnswered_23 : decode cX3_isAnswered 23 = .ok (.aload_n 0, 1) := dk_42 (dk_at dksX3_isAnswered_0 23 rfl rfl)
theorem dX3_isAnswered_24 : decode cX3_isAnswered 24 = .ok (.getfield 42, 3) := dk_180 0 42 (dk_at dksX3_isAnswered_1 0 rfl rfl)
theorem dX3_isAnswered_27 : decode cX3_isAnswered 27 = .ok (.iconst 2, 1) := dk_5 (dk_at dksX3_isAnswered_1 3 rfl rfl)
theorem dX3_isAnswered_28 : decode cX3_isAnswered 28 = .ok (.iaload, 1) := dk_46 (dk_at dksX3_isAnswered_1 4 rfl rfl)
theorem dX3_isAnswered_29 : decode cX3_isAnswered 29 = .ok (.iconst 5, 1) := dk_8 (dk_at dksX3_isAnswered_1 5 rfl rfl)
theorem dX3_isAnswered_30 : decode cX3_isAnswered 30 = .ok (.if_icmp .ne 24, 3) := dk_160 0 24 (dk_at dksX3_isAnswered_1 6 rfl rfl)
theorem dX3_isAnswered_33 : decode cX3_isAnswered 33 = .ok (.aload_n 0, 1) := dk_42 (dk_at dksX3_isAnswered_1 9 rfl rfl)
theorem dX3_isAnswered_34 : decode cX3_isAnswered 34 = .ok (.iload_n 1, 1) := dk_27 (dk_at dksX3_isAnswered_1 10 rfl rfl)
theorem dX3_isAnswered_35 : decode cX3_isAnswered 35 = .ok (.aload_n 0, 1) := dk_42 (dk_at dksX3_isAnswered_1 11 rfl rfl)
theorem dX3_isAnswered_36 : decode cX3_isAnswered 36 = .ok (.getfield 42, 3) := dk_180 0 42 (dk_at dksX3_isAnswered_1 12 rfl rfl)
theorem dX3_isAnswered_39 : decode cX3_isAnswered 39 = .ok (.iconst 5, 1) := dk_8 (dk_at dksX3_isAnswered_1 15 rfl rfl)
theorem dX3_isAnswered_40 : decode cX3_isAnswered 40 = .ok (.iaload, 1) := dk_46 (dk_at dksX3_isAnswered_1 16 rfl rfl)
theorem dX3_isAnswered_41 : decode cX3_isAnswered 41 = .ok (.aload_n 0, 1) := dk_42 (dk_at dksX3_isAnswered_1 17 rfl rfl)
theorem dX3_isAnswered_42 : decode cX3_isAnswered 42 = .ok (.getfield 42, 3) := dk_180 0 42 (dk_at dksX3_isAnswered_1 18 rfl rfl)
theorem dX3_isAnswered_45 : decode cX3_isAnswered 45 = .ok (.bipush 6, 2) := dk_16 6 (dk_at dksX3_isAnswered_1 21 rfl rfl)
theorem dX3_isAnswered_47 : decode cX3_isAnswered 47 = .ok (.iaload, 1) := dk_46 (dk_at dksX3_isAnswered_1 23 rfl rfl)
theorem dX3_isAnswered_48 : decode cX3_isAnswered 48 = .ok (.invokevirtual 280, 3) := dk_182 1 24 (dk_at dksX3_isAnswered_2 0 rfl rfl)
theorem dX3_isAnswered_51 : decode cX3_isAnswered 51 = .ok (.goto 96, 3) := dk_167 0 96 (dk_at dksX3_isAnswered_2 3 rfl rfl)
theorem dX3_isAnswered_54 : decode cX3_isAnswered 54 = .ok (.aload_n 0, 1) := dk_42 (dk_at dksX3_isAnswered_2 6 rfl rfl)
theorem dX3_isAnswered_55 : decode cX3_isAnswered 55 = .ok (.getfield 42, 3) := dk_180 0 42 (dk_at dksX3_isAnswered_2 7 rfl rfl)
theorem dX3_isAnswered_58 : decode cX3_isAnswered 58 = .ok (.iconst 5, 1) := dk_8 (dk_at dksX3_isAnswered_2 10 rfl rfl)
theorem dX3_isAnswered_59 : decode cX3_isAnswered 59 = .ok (.iaload, 1) := dk_46 (dk_at dksX3_isAnswered_2 11 rfl rfl)
theorem dX3_isAnswered_60 : decode cX3_isAnswered 60 = .ok (.iconst 1, 1) := dk_4 (dk_at dksX3_isAnswered_2 12 rfl rfl)
theorem dX3_isAnswered_61 : decode cX3_isAnswered 61 = .ok (.if_icmp .ne 25, 3) := dk_160 0 25 (dk_at dksX3_isAnswered_2 13 rfl rfl)
theorem dX3_isAnswered_64 : decode cX3_isAnswered 64 = .ok (.aload_n 0, 1) := dk_42 (dk_at dksX3_isAnswered_2 16 rfl rfl)
theorem dX3_isAnswered_65 : decode cX3_isAnswered 65 = .ok (.iload_n 1, 1) := dk_27 (dk_at dksX3_isAnswered_2 17 rfl rfl)
theorem dX3_isAnswered_66 : decode cX3_isAnswered 66 = .ok (.aload_n 0, 1) := dk_42 (dk_at dksX3_isAnswered_2 18 rfl rfl)
theorem dX3_isAnswered_67 : decode cX3_isAnswered 67 = .ok (.getfield 42, 3) := dk_180 0 42 (dk_at dksX3_isAnswered_2 19 rfl rfl)
theorem dX3_isAnswered_70 : decode cX3_isAnswered 70 = .ok (.bipush 6, 2) := dk_16 6 (dk_at dksX3_isAnswered_2 22 rfl rfl)
theorem dX3_isAnswered_72 : decode cX3_isAnswered 72 = .ok (.iaload, 1) := dk_46 (dk_at dksX3_isAnswered_3 0 rfl rfl)
theorem dX3_isAnswered_73 : decode cX3_isAnswered 73 = .ok (.aload_n 0, 1) := dk_42 (dk_at dksX3_isAnswered_3 1 rfl rfl)
theorem dX3_isAnswered_74 : decode cX3_isAnswered 74 = .ok (.getfield 42, 3) := dk_180 0 42 (dk_at dksX3_isAnswered_3 2 rfl rfl)
theorem dX3_isAnswered_77 : decode cX3_isAnswered 77 = .ok (.bipush 7, 2) := dk_16 7 (dk_at dksX3_isAnswered_3 5 rfl rfl)
theorem dX3_isAnswered_79 : decode cX3_isAnswered 79 = .ok (.iaload, 1) := dk_46 (dk_at dksX3_isAnswered_3 7 rfl rfl)
theorem dX3_isAnswered_80 : decode cX3_isAnswered 80 = .ok (.invokevirtual 280, 3) := dk_182 1 24 (dk_at dksX3_isAnswered_3 8 rfl rfl)
theorem dX3_isAnswered_83 : decode cX3_isAnswered 83 = .ok (.goto 64, 3) := dk_167 0 64 (dk_at dksX3_isAnswered_3 11 rfl rfl)
theorem dX3_isAnswered_86 : decode cX3_isAnswered 86 = .ok (.aload_n 2, 1) := dk_44 (dk_at dksX3_isAnswered_3 14 rfl rfl)
theorem dX3_isAnswered_87 : decode cX3_isAnswered 87 = .ok (.getfield 224, 3) := dk_180 0 224 (dk_at dksX3_isAnswered_3 15 rfl rfl)
theorem dX3_isAnswered_90 : decode cX3_isAnswered 90 = .ok (.iload_n 3, 1) := dk_29 (dk_at dksX3_isAnswered_3 18 rfl rfl)
theorem dX3_isAnswered_91 : decode cX3_isAnswered 91 = .ok (.aload_n 2, 1) := dk_44 (dk_at dksX3_isAnswered_3 19 rfl rfl)
theorem dX3_isAnswered_92 : decode cX3_isAnswered 92 = .ok (.getfield 224, 3) := dk_180 0 224 (dk_at dksX3_isAnswered_3 20 rfl rfl)
theorem dX3_isAnswered_95 : decode cX3_isAnswered 95 = .ok (.iload_n 3, 1) := dk_29 (dk_at dksX3_isAnswered_3 23 rfl rfl)
theorem dX3_isAnswered_96 : decode cX3_isAnswered 96 = .ok (.iaload, 1) := dk_46 (dk_at dksX3_isAnswered_4 0 rfl rfl)
theorem dX3_isAnswered_97 : decode cX3_isAnswered 97 = .ok (.aload_n 0, 1) := dk_42 (dk_at dksX3_isAnswered_4 1 rfl rfl)
theorem dX3_isAnswered_98 : decode cX3_isAnswered 98 = .ok (.getfield 42, 3) := dk_180 0 42 (dk_at dksX3_isAnswered_4 2 rfl rfl)
theorem dX3_isAnswered_101 : decode cX3_isAnswered 101 = .ok (.bipush 7, 2) := dk_16 7 (dk_at dksX3_isAnswered_4 5 rfl rfl)
theorem dX3_isAnswered_103 : decode cX3_isAnswered 103 = .ok (.iaload, 1) := dk_46 (dk_at dksX3_isAnswered_4 7 rfl rfl)
theorem dX3_isAnswered_104 : decode cX3_isAnswered 104 = .ok (.invokestatic 121, 3) := dk_184 0 121 (dk_at dksX3_isAnswered_4 8 rfl rfl)
theorem dX3_isAnswered_107 : decode cX3_isAnswered 107 = .ok (.iastore, 1) := dk_79 (dk_at dksX3_isAnswered_4 11 rfl rfl)
theorem dX3_isAnswered_108 : decode cX3_isAnswered 108 = .ok (.aload_n 2, 1) := dk_44 (dk_at dksX3_isAnswered_4 12 rfl rfl)
theorem dX3_isAnswered_109 : decode cX3_isAnswered 109 = .ok (.getfield 145, 3) := dk_180 0 145 (dk_at dksX3_isAnswered_4 13 rfl rfl)
theorem dX3_isAnswered_112 : decode cX3_isAnswered 112 = .ok (.iload_n 3, 1) := dk_29 (dk_at dksX3_isAnswered_4 16 rfl rfl)
theorem dX3_isAnswered_113 : decode cX3_isAnswered 113 = .ok (.aload_n 2, 1) := dk_44 (dk_at dksX3_isAnswered_4 17 rfl rfl)
theorem dX3_isAnswered_114 : decode cX3_isAnswered 114 = .ok (.getfield 221, 3) := dk_180 0 221 (dk_at dksX3_isAnswered_4 18 rfl rfl)
theorem dX3_isAnswered_117 : decode cX3_isAnswered 117 = .ok (.iload_n 3, 1) := dk_29 (dk_at dksX3_isAnswered_4 21 rfl rfl)
theorem dX3_isAnswered_118 : decode cX3_isAnswered 118 = .ok (.iaload, 1) := dk_46 (dk_at dksX3_isAnswered_4 22 rfl rfl)
theorem dX3_isAnswered_119 : decode cX3_isAnswered 119 = .ok (.iconst 1, 1) := dk_4 (dk_at dksX3_isAnswered_4 23 rfl rfl)
theorem dX3_isAnswered_120 : decode cX3_isAnswered 120 = .ok (.iadd, 1) := dk_96 (dk_at dksX3_isAnswered_5 0 rfl rfl)
theorem dX3_isAnswered_121 : decode cX3_isAnswered 121 = .ok (.aload_n 2, 1) := dk_44 (dk_at dksX3_isAnswered_5 1 rfl rfl)
theorem dX3_isAnswered_122 : decode cX3_isAnswered 122 = .ok (.getfield 145, 3) := dk_180 0 145 (dk_at dksX3_isAnswered_5 2 rfl rfl)
theorem dX3_isAnswered_125 : decode cX3_isAnswered 125 = .ok (.iload_n 3, 1) := dk_29 (dk_at dksX3_isAnswered_5 5 rfl rfl)
theorem dX3_isAnswered_126 : decode cX3_isAnswered 126 = .ok (.iaload, 1) := dk_46 (dk_at dksX3_isAnswered_5 6 rfl rfl)
theorem dX3_isAnswered_127 : decode cX3_isAnswered 127 = .ok (.aload_n 0, 1) := dk_42 (dk_at dksX3_isAnswered_5 7 rfl rfl)
theorem dX3_isAnswered_128 : decode cX3_isAnswered 128 = .ok (.getfield 42, 3) := dk_180 0 42 (dk_at dksX3_isAnswered_5 8 rfl rfl)
theorem dX3_isAnswered_131 : decode cX3_isAnswered 131 = .ok (.bipush 6, 2) := dk_16 6 (dk_at dksX3_isAnswered_5 11 rfl rfl)
theorem dX3_isAnswered_133 : decode cX3_isAnswered 133 = .ok (.iaload, 1) := dk_46 (dk_at dksX3_isAnswered_5 13 rfl rfl)
theorem dX3_isAnswered_134 : decode cX3_isAnswered 134 = .ok (.invokestatic 115, 3) := dk_184 0 115 (dk_at dksX3_isAnswered_5 14 rfl rfl)
theorem dX3_isAnswered_137 : decode cX3_isAnswered 137 = .ok (.invokestatic 121, 3) := dk_184 0 121 (dk_at dksX3_isAnswered_5 17 rfl rfl)
theorem dX3_isAnswered_140 : decode cX3_isAnswered 140 = .ok (.iastore, 1) := dk_79 (dk_at dksX3_isAnswered_5 20 rfl rfl)
theorem dX3_isAnswered_141 : decode cX3_isAnswered 141 = .ok (.aload_n 0, 1) := dk_42 (dk_at dksX3_isAnswered_5 21 rfl rfl)
theorem dX3_isAnswered_142 : decode cX3_isAnswered 142 = .ok (.iload_n 1, 1) := dk_27 (dk_at dksX3_isAnswered_5 22 rfl rfl)
theorem dX3_isAnswered_143 : decode cX3_isAnswered 143 = .ok (.iload_n 3, 1) := dk_29 (dk_at dksX3_isAnswered_5 23 rfl rfl)
theorem dX3_isAnswered_144 : decode cX3_isAnswered 144 = .ok (.invokevirtual 195, 3) := dk_182 0 195 (dk_at dksX3_isAnswered_6 0 rfl rfl)
theorem dX3_isAnswered_147 : decode cX3_isAnswered 147 = .ok (.aload_n 2, 1) := dk_44 (dk_at dksX3_isAnswered_6 3 rfl rfl)
theorem dX3_isAnswered_148 : decode cX3_isAnswered 148 = .ok (.getfield 199, 3) := dk_180 0 199 (dk_at dksX3_isAnswered_6 4 rfl rfl)
theorem dX3_isAnswered_151 : decode cX3_isAnswered 151 = .ok (.iconst 2, 1) := dk_5 (dk_at dksX3_isAnswered_6 7 rfl rfl)
theorem dX3_isAnswered_152 : decode cX3_isAnswered 152 = .ok (.if_icmp .ne 8, 3) := dk_160 0 8 (dk_at dksX3_isAnswered_6 8 rfl rfl)
theorem dX3_isAnswered_155 : decode cX3_isAnswered 155 = .ok (.aload_n 0, 1) := dk_42 (dk_at dksX3_isAnswered_6 11 rfl rfl)
theorem dX3_isAnswered_156 : decode cX3_isAnswered 156 = .ok (.iload_n 1, 1) := dk_27 (dk_at dksX3_isAnswered_6 12 rfl rfl)
theorem dX3_isAnswered_157 : decode cX3_isAnswered 157 = .ok (.invokevirtual 284, 3) := dk_182 1 28 (dk_at dksX3_isAnswered_6 13 rfl rfl)
theorem dX3_isAnswered_160 : decode cX3_isAnswered 160 = .ok (.return_, 1) := dk_177 (dk_at dksX3_isAnswered_6 16 rfl rfl)
abbrev cX3_isLeadersOwn : ByteArray := prog_3_method_25_code
def yX3_isLeadersOwn : MethodName := ⟨RX3, "isLeadersOwn", "(I)Z"⟩
def dkwX3_isLeadersOwn_1 : List UInt8 := [50, 180, 0, 92, 160, 0, 7, 4, 167, 0, 4, 3, 172]
abbrev dktX3_isLeadersOwn_1 : List UInt8 := dkwX3_isLeadersOwn_1 ++ []
def dkwX3_isLeadersOwn_0 : List UInt8 := [42, 180, 0, 17, 27, 50, 180, 0, 199, 5, 160, 0, 25, 42, 180, 0, 42, 6, 46, 42, 180, 0, 17, 27]
abbrev dktX3_isLeadersOwn_0 : List UInt8 := dkwX3_isLeadersOwn_0 ++ dktX3_isLeadersOwn_1
theorem dksX3_isLeadersOwn_0 : cX3_isLeadersOwn.data.toList.drop 0 = dktX3_isLeadersOwn_0 := by decide +kernel
theorem dksX3_isLeadersOwn_1 : cX3_isLeadersOwn.data.toList.drop 24 = dktX3_isLeadersOwn_1 := dk_seg dksX3_isLeadersOwn_0 24 rfl rfl
theorem dX3_isLeadersOwn_0 : decode cX3_isLeadersOwn 0 = .ok (.aload_n 0, 1) := dk_42 (dk_at dksX3_isLeadersOwn_0 0 rfl rfl)
theorem dX3_isLeadersOwn_1 : decode cX3_isLeadersOwn 1 = .ok (.getfield 17, 3) := dk_180 0 17 (dk_at dksX3_isLeadersOwn_0 1 rfl rfl)
theorem dX3_isLeadersOwn_4 : decode cX3_isLeadersOwn 4 = .ok (.iload_n 1, 1) := dk_27 (dk_at dksX3_isLeadersOwn_0 4 rfl rfl)
theorem dX3_isLeadersOwn_5 : decode cX3_isLeadersOwn 5 = .ok (.aaload, 1) := dk_50 (dk_at dksX3_isLeadersOwn_0 5 rfl rfl)
theorem dX3_isLeadersOwn_6 : decode cX3_isLeadersOwn 6 = .ok (.getfield 199, 3) := dk_180 0 199 (dk_at dksX3_isLeadersOwn_0 6 rfl rfl)
theorem dX3_isLeadersOwn_9 : decode cX3_isLeadersOwn 9 = .ok (.iconst 2, 1) := dk_5 (dk_at dksX3_isLeadersOwn_0 9 rfl rfl)
theorem dX3_isLeadersOwn_10 : decode cX3_isLeadersOwn 10 = .ok (.if_icmp .ne 25, 3) := dk_160 0 25 (dk_at dksX3_isLeadersOwn_0 10 rfl rfl)
theorem dX3_isLeadersOwn_13 : decode cX3_isLeadersOwn 13 = .ok (.aload_n 0, 1) := dk_42 (dk_at dksX3_isLeadersOwn_0 13 rfl rfl)
theorem dX3_isLeadersOwn_14 : decode cX3_isLeadersOwn 14 = .ok (.getfield 42, 3) := dk_180 0 42 (dk_at dksX3_isLeadersOwn_0 14 rfl rfl)
theorem dX3_isLeadersOwn_17 : decode cX3_isLeadersOwn 17 = .ok (.iconst 3, 1) := dk_6 (dk_at dksX3_isLeadersOwn_0 17 rfl rfl)
theorem dX3_isLeadersOwn_18 : decode cX3_isLeadersOwn 18 = .ok (.iaload, 1) := dk_46 (dk_at dksX3_isLeadersOwn_0 18 rfl rfl)
theorem dX3_isLeadersOwn_19 : decode cX3_isLeadersOwn 19 = .ok (.aload_n 0, 1) := dk_42 (dk_at dksX3_isLeadersOwn_0 19 rfl rfl)
theorem dX3_isLeadersOwn_20 : decode cX3_isLeadersOwn 20 = .ok (.getfield 17, 3) := dk_180 0 17 (dk_at dksX3_isLeadersOwn_0 20 rfl rfl)
theorem dX3_isLeadersOwn_23 : decode cX3_isLeadersOwn 23 = .ok (.iload_n 1, 1) := dk_27 (dk_at dksX3_isLeadersOwn_0 23 rfl rfl)
theorem dX3_isLeadersOwn_24 : decode cX3_isLeadersOwn 24 = .ok (.aaload, 1) := dk_50 (dk_at dksX3_isLeadersOwn_1 0 rfl rfl)
theorem dX3_isLeadersOwn_25 : decode cX3_isLeadersOwn 25 = .ok (.getfield 92, 3) := dk_180 0 92 (dk_at dksX3_isLeadersOwn_1 1 rfl rfl)
theorem dX3_isLeadersOwn_28 : decode cX3_isLeadersOwn 28 = .ok (.if_icmp .ne 7, 3) := dk_160 0 7 (dk_at dksX3_isLeadersOwn_1 4 rfl rfl)
theorem dX3_isLeadersOwn_31 : decode cX3_isLeadersOwn 31 = .ok (.iconst 1, 1) := dk_4 (dk_at dksX3_isLeadersOwn_1 7 rfl rfl)
theorem dX3_isLeadersOwn_32 : decode cX3_isLeadersOwn 32 = .ok (.goto 4, 3) := dk_167 0 4 (dk_at dksX3_isLeadersOwn_1 8 rfl rfl)
theorem dX3_isLeadersOwn_35 : decode cX3_isLeadersOwn 35 = .ok (.iconst 0, 1) := dk_3 (dk_at dksX3_isLeadersOwn_1 11 rfl rfl)
theorem dX3_isLeadersOwn_36 : decode cX3_isLeadersOwn 36 = .ok (.ireturn, 1) := dk_172 (dk_at dksX3_isLeadersOwn_1 12 rfl rfl)
abbrev cX3_hears : ByteArray := prog_3_method_26_code
def yX3_hears : MethodName := ⟨RX3, "hears", "(III)V"⟩
def dkwX3_hears_4 : List UInt8 := [180, 0, 145, 21, 5, 46, 25, 4, 182, 0, 173, 163, 0, 10, 42, 27, 21, 5, 182, 0, 195, 177]
abbrev dktX3_hears_4 : List UInt8 := dkwX3_hears_4 ++ []
def dkwX3_hears_3 : List UInt8 := [21, 5, 46, 4, 96, 79, 42, 27, 182, 0, 237, 25, 4, 180, 0, 199, 5, 160, 0, 26, 25, 4]
abbrev dktX3_hears_3 : List UInt8 := dkwX3_hears_3 ++ dktX3_hears_4
def dkwX3_hears_2 : List UInt8 := [180, 0, 221, 21, 5, 46, 28, 184, 0, 121, 79, 25, 4, 180, 0, 145, 21, 5, 25, 4, 180, 0, 221]
abbrev dktX3_hears_2 : List UInt8 := dkwX3_hears_2 ++ dktX3_hears_3
def dkwX3_hears_1 : List UInt8 := [25, 4, 180, 0, 224, 21, 5, 46, 29, 184, 0, 121, 79, 25, 4, 180, 0, 221, 21, 5, 25, 4]
abbrev dktX3_hears_1 : List UInt8 := dkwX3_hears_1 ++ dktX3_hears_2
def dkwX3_hears_0 : List UInt8 := [42, 180, 0, 17, 27, 50, 58, 4, 42, 180, 0, 42, 3, 46, 54, 5, 25, 4, 180, 0, 224, 21, 5]
abbrev dktX3_hears_0 : List UInt8 := dkwX3_hears_0 ++ dktX3_hears_1
theorem dksX3_hears_0 : cX3_hears.data.toList.drop 0 = dktX3_hears_0 := by decide +kernel
theorem dksX3_hears_1 : cX3_hears.data.toList.drop 23 = dktX3_hears_1 := dk_seg dksX3_hears_0 23 rfl rfl
theorem dksX3_hears_2 : cX3_hears.data.toList.drop 45 = dktX3_hears_2 := dk_seg dksX3_hears_1 22 rfl rfl
theorem dksX3_hears_3 : cX3_hears.data.toList.drop 68 = dktX3_hears_3 := dk_seg dksX3_hears_2 23 rfl rfl
theorem dksX3_hears_4 : cX3_hears.data.toList.drop 90 = dktX3_hears_4 := dk_seg dksX3_hears_3 22 rfl rfl
theorem dX3_hears_0 : decode cX3_hears 0 = .ok (.aload_n 0, 1) := dk_42 (dk_at dksX3_hears_0 0 rfl rfl)
theorem dX3_hears_1 : decode cX3_hears 1 = .ok (.getfield 17, 3) := dk_180 0 17 (dk_at dksX3_hears_0 1 rfl rfl)
theorem dX3_hears_4 : decode cX3_hears 4 = .ok (.iload_n 1, 1) := dk_27 (dk_at dksX3_hears_0 4 rfl rfl)
theorem dX3_hears_5 : decode cX3_hears 5 = .ok (.aaload, 1) := dk_50 (dk_at dksX3_hears_0 5 rfl rfl)
theorem dX3_hears_6 : decode cX3_hears 6 = .ok (.astore 4, 2) := dk_58 4 (dk_at dksX3_hears_0 6 rfl rfl)
theorem dX3_hears_8 : decode cX3_hears 8 = .ok (.aload_n 0, 1) := dk_42 (dk_at dksX3_hears_0 8 rfl rfl)
theorem dX3_hears_9 : decode cX3_hears 9 = .ok (.getfield 42, 3) := dk_180 0 42 (dk_at dksX3_hears_0 9 rfl rfl)
theorem dX3_hears_12 : decode cX3_hears 12 = .ok (.iconst 0, 1) := dk_3 (dk_at dksX3_hears_0 12 rfl rfl)
theorem dX3_hears_13 : decode cX3_hears 13 = .ok (.iaload, 1) := dk_46 (dk_at dksX3_hears_0 13 rfl rfl)
theorem dX3_hears_14 : decode cX3_hears 14 = .ok (.istore 5, 2) := dk_54 5 (dk_at dksX3_hears_0 14 rfl rfl)
theorem dX3_hears_16 : decode cX3_hears 16 = .ok (.aload 4, 2) := dk_25 4 (dk_at dksX3_hears_0 16 rfl rfl)
theorem dX3_hears_18 : decode cX3_hears 18 = .ok (.getfield 224, 3) := dk_180 0 224 (dk_at dksX3_hears_0 18 rfl rfl)
theorem dX3_hears_21 : decode cX3_hears 21 = .ok (.iload 5, 2) := dk_21 5 (dk_at dksX3_hears_0 21 rfl rfl)
theorem dX3_hears_23 : decode cX3_hears 23 = .ok (.aload 4, 2) := dk_25 4 (dk_at dksX3_hears_1 0 rfl rfl)
theorem dX3_hears_25 : decode cX3_hears 25 = .ok (.getfield 224, 3) := dk_180 0 224 (dk_at dksX3_hears_1 2 rfl rfl)
theorem dX3_hears_28 : decode cX3_hears 28 = .ok (.iload 5, 2) := dk_21 5 (dk_at dksX3_hears_1 5 rfl rfl)
theorem dX3_hears_30 : decode cX3_hears 30 = .ok (.iaload, 1) := dk_46 (dk_at dksX3_hears_1 7 rfl rfl)
theorem dX3_hears_31 : decode cX3_hears 31 = .ok (.iload_n 3, 1) := dk_29 (dk_at dksX3_hears_1 8 rfl rfl)
theorem dX3_hears_32 : decode cX3_hears 32 = .ok (.invokestatic 121, 3) := dk_184 0 121 (dk_at dksX3_hears_1 9 rfl rfl)
theorem dX3_hears_35 : decode cX3_hears 35 = .ok (.iastore, 1) := dk_79 (dk_at dksX3_hears_1 12 rfl rfl)
theorem dX3_hears_36 : decode cX3_hears 36 = .ok (.aload 4, 2) := dk_25 4 (dk_at dksX3_hears_1 13 rfl rfl)
theorem dX3_hears_38 : decode cX3_hears 38 = .ok (.getfield 221, 3) := dk_180 0 221 (dk_at dksX3_hears_1 15 rfl rfl)
theorem dX3_hears_41 : decode cX3_hears 41 = .ok (.iload 5, 2) := dk_21 5 (dk_at dksX3_hears_1 18 rfl rfl)
theorem dX3_hears_43 : decode cX3_hears 43 = .ok (.aload 4, 2) := dk_25 4 (dk_at dksX3_hears_1 20 rfl rfl)
theorem dX3_hears_45 : decode cX3_hears 45 = .ok (.getfield 221, 3) := dk_180 0 221 (dk_at dksX3_hears_2 0 rfl rfl)
theorem dX3_hears_48 : decode cX3_hears 48 = .ok (.iload 5, 2) := dk_21 5 (dk_at dksX3_hears_2 3 rfl rfl)
theorem dX3_hears_50 : decode cX3_hears 50 = .ok (.iaload, 1) := dk_46 (dk_at dksX3_hears_2 5 rfl rfl)
theorem dX3_hears_51 : decode cX3_hears 51 = .ok (.iload_n 2, 1) := dk_28 (dk_at dksX3_hears_2 6 rfl rfl)
theorem dX3_hears_52 : decode cX3_hears 52 = .ok (.invokestatic 121, 3) := dk_184 0 121 (dk_at dksX3_hears_2 7 rfl rfl)
theorem dX3_hears_55 : decode cX3_hears 55 = .ok (.iastore, 1) := dk_79 (dk_at dksX3_hears_2 10 rfl rfl)
theorem dX3_hears_56 : decode cX3_hears 56 = .ok (.aload 4, 2) := dk_25 4 (dk_at dksX3_hears_2 11 rfl rfl)
theorem dX3_hears_58 : decode cX3_hears 58 = .ok (.getfield 145, 3) := dk_180 0 145 (dk_at dksX3_hears_2 13 rfl rfl)
theorem dX3_hears_61 : decode cX3_hears 61 = .ok (.iload 5, 2) := dk_21 5 (dk_at dksX3_hears_2 16 rfl rfl)
theorem dX3_hears_63 : decode cX3_hears 63 = .ok (.aload 4, 2) := dk_25 4 (dk_at dksX3_hears_2 18 rfl rfl)
theorem dX3_hears_65 : decode cX3_hears 65 = .ok (.getfield 221, 3) := dk_180 0 221 (dk_at dksX3_hears_2 20 rfl rfl)
theorem dX3_hears_68 : decode cX3_hears 68 = .ok (.iload 5, 2) := dk_21 5 (dk_at dksX3_hears_3 0 rfl rfl)
theorem dX3_hears_70 : decode cX3_hears 70 = .ok (.iaload, 1) := dk_46 (dk_at dksX3_hears_3 2 rfl rfl)
theorem dX3_hears_71 : decode cX3_hears 71 = .ok (.iconst 1, 1) := dk_4 (dk_at dksX3_hears_3 3 rfl rfl)
theorem dX3_hears_72 : decode cX3_hears 72 = .ok (.iadd, 1) := dk_96 (dk_at dksX3_hears_3 4 rfl rfl)
theorem dX3_hears_73 : decode cX3_hears 73 = .ok (.iastore, 1) := dk_79 (dk_at dksX3_hears_3 5 rfl rfl)
theorem dX3_hears_74 : decode cX3_hears 74 = .ok (.aload_n 0, 1) := dk_42 (dk_at dksX3_hears_3 6 rfl rfl)
theorem dX3_hears_75 : decode cX3_hears 75 = .ok (.iload_n 1, 1) := dk_27 (dk_at dksX3_hears_3 7 rfl rfl)
theorem dX3_hears_76 : decode cX3_hears 76 = .ok (.invokevirtual 237, 3) := dk_182 0 237 (dk_at dksX3_hears_3 8 rfl rfl)
theorem dX3_hears_79 : decode cX3_hears 79 = .ok (.aload 4, 2) := dk_25 4 (dk_at dksX3_hears_3 11 rfl rfl)
theorem dX3_hears_81 : decode cX3_hears 81 = .ok (.getfield 199, 3) := dk_180 0 199 (dk_at dksX3_hears_3 13 rfl rfl)
theorem dX3_hears_84 : decode cX3_hears 84 = .ok (.iconst 2, 1) := dk_5 (dk_at dksX3_hears_3 16 rfl rfl)
theorem dX3_hears_85 : decode cX3_hears 85 = .ok (.if_icmp .ne 26, 3) := dk_160 0 26 (dk_at dksX3_hears_3 17 rfl rfl)
theorem dX3_hears_88 : decode cX3_hears 88 = .ok (.aload 4, 2) := dk_25 4 (dk_at dksX3_hears_3 20 rfl rfl)
theorem dX3_hears_90 : decode cX3_hears 90 = .ok (.getfield 145, 3) := dk_180 0 145 (dk_at dksX3_hears_4 0 rfl rfl)
theorem dX3_hears_93 : decode cX3_hears 93 = .ok (.iload 5, 2) := dk_21 5 (dk_at dksX3_hears_4 3 rfl rfl)
theorem dX3_hears_95 : decode cX3_hears 95 = .ok (.iaload, 1) := dk_46 (dk_at dksX3_hears_4 5 rfl rfl)
theorem dX3_hears_96 : decode cX3_hears 96 = .ok (.aload 4, 2) := dk_25 4 (dk_at dksX3_hears_4 6 rfl rfl)
theorem dX3_hears_98 : decode cX3_hears 98 = .ok (.invokevirtual 173, 3) := dk_182 0 173 (dk_at dksX3_hears_4 8 rfl rfl)
theorem dX3_hears_101 : decode cX3_hears 101 = .ok (.if_icmp .gt 10, 3) := dk_163 0 10 (dk_at dksX3_hears_4 11 rfl rfl)
theorem dX3_hears_104 : decode cX3_hears 104 = .ok (.aload_n 0, 1) := dk_42 (dk_at dksX3_hears_4 14 rfl rfl)
theorem dX3_hears_105 : decode cX3_hears 105 = .ok (.iload_n 1, 1) := dk_27 (dk_at dksX3_hears_4 15 rfl rfl)
theorem dX3_hears_106 : decode cX3_hears 106 = .ok (.iload 5, 2) := dk_21 5 (dk_at dksX3_hears_4 16 rfl rfl)
theorem dX3_hears_108 : decode cX3_hears 108 = .ok (.invokevirtual 195, 3) := dk_182 0 195 (dk_at dksX3_hears_4 18 rfl rfl)
theorem dX3_hears_111 : decode cX3_hears 111 = .ok (.return_, 1) := dk_177 (dk_at dksX3_hears_4 21 rfl rfl)
abbrev cX3_beats : ByteArray := prog_3_method_34_code
def yX3_beats : MethodName := ⟨RX3, "beats", "(I)V"⟩
def dkwX3_beats_3 : List UInt8 := [181, 0, 154, 42, 27, 182, 0, 234, 177]
abbrev dktX3_beats_3 : List UInt8 := dkwX3_beats_3 ++ []
def dkwX3_beats_2 : List UInt8 := [181, 0, 227, 44, 180, 0, 227, 6, 162, 0, 4, 177, 44, 3, 181, 0, 227, 44, 89, 180, 0, 154, 4, 96]
abbrev dktX3_beats_2 : List UInt8 := dkwX3_beats_2 ++ dktX3_beats_3
def dkwX3_beats_1 : List UInt8 := [181, 0, 124, 44, 180, 0, 124, 157, 0, 8, 42, 27, 182, 1, 65, 177, 44, 89, 180, 0, 227, 4, 96]
abbrev dktX3_beats_1 : List UInt8 := dkwX3_beats_1 ++ dktX3_beats_2
def dkwX3_beats_0 : List UInt8 := [42, 180, 0, 17, 27, 50, 77, 44, 180, 0, 199, 5, 159, 0, 26, 44, 89, 180, 0, 124, 4, 100]
abbrev dktX3_beats_0 : List UInt8 := dkwX3_beats_0 ++ dktX3_beats_1
theorem dksX3_beats_0 : cX3_beats.data.toList.drop 0 = dktX3_beats_0 := by decide +kernel
theorem dksX3_beats_1 : cX3_beats.data.toList.drop 22 = dktX3_beats_1 := dk_seg dksX3_beats_0 22 rfl rfl
theorem dksX3_beats_2 : cX3_beats.data.toList.drop 45 = dktX3_beats_2 := dk_seg dksX3_beats_1 23 rfl rfl
theorem dksX3_beats_3 : cX3_beats.data.toList.drop 69 = dktX3_beats_3 := dk_seg dksX3_beats_2 24 rfl rfl
theorem dX3_beats_0 : decode cX3_beats 0 = .ok (.aload_n 0, 1) := dk_42 (dk_at dksX3_beats_0 0 rfl rfl)
theorem dX3_beats_1 : decode cX3_beats 1 = .ok (.getfield 17, 3) := dk_180 0 17 (dk_at dksX3_beats_0 1 rfl rfl)
theorem dX3_beats_4 : decode cX3_beats 4 = .ok (.iload_n 1, 1) := dk_27 (dk_at dksX3_beats_0 4 rfl rfl)
theorem dX3_beats_5 : decode cX3_beats 5 = .ok (.aaload, 1) := dk_50 (dk_at dksX3_beats_0 5 rfl rfl)
theorem dX3_beats_6 : decode cX3_beats 6 = .ok (.astore_n 2, 1) := dk_77 (dk_at dksX3_beats_0 6 rfl rfl)
theorem dX3_beats_7 : decode cX3_beats 7 = .ok (.aload_n 2, 1) := dk_44 (dk_at dksX3_beats_0 7 rfl rfl)
theorem dX3_beats_8 : decode cX3_beats 8 = .ok (.getfield 199, 3) := dk_180 0 199 (dk_at dksX3_beats_0 8 rfl rfl)
theorem dX3_beats_11 : decode cX3_beats 11 = .ok (.iconst 2, 1) := dk_5 (dk_at dksX3_beats_0 11 rfl rfl)
theorem dX3_beats_12 : decode cX3_beats 12 = .ok (.if_icmp .eq 26, 3) := dk_159 0 26 (dk_at dksX3_beats_0 12 rfl rfl)
theorem dX3_beats_15 : decode cX3_beats 15 = .ok (.aload_n 2, 1) := dk_44 (dk_at dksX3_beats_0 15 rfl rfl)
theorem dX3_beats_16 : decode cX3_beats 16 = .ok (.dup, 1) := dk_89 (dk_at dksX3_beats_0 16 rfl rfl)
theorem dX3_beats_17 : decode cX3_beats 17 = .ok (.getfield 124, 3) := dk_180 0 124 (dk_at dksX3_beats_0 17 rfl rfl)
theorem dX3_beats_20 : decode cX3_beats 20 = .ok (.iconst 1, 1) := dk_4 (dk_at dksX3_beats_0 20 rfl rfl)
theorem dX3_beats_21 : decode cX3_beats 21 = .ok (.isub, 1) := dk_100 (dk_at dksX3_beats_0 21 rfl rfl)
theorem dX3_beats_22 : decode cX3_beats 22 = .ok (.putfield 124, 3) := dk_181 0 124 (dk_at dksX3_beats_1 0 rfl rfl)
theorem dX3_beats_25 : decode cX3_beats 25 = .ok (.aload_n 2, 1) := dk_44 (dk_at dksX3_beats_1 3 rfl rfl)
theorem dX3_beats_26 : decode cX3_beats 26 = .ok (.getfield 124, 3) := dk_180 0 124 (dk_at dksX3_beats_1 4 rfl rfl)
theorem dX3_beats_29 : decode cX3_beats 29 = .ok (.ifCond .gt 8, 3) := dk_157 0 8 (dk_at dksX3_beats_1 7 rfl rfl)
theorem dX3_beats_32 : decode cX3_beats 32 = .ok (.aload_n 0, 1) := dk_42 (dk_at dksX3_beats_1 10 rfl rfl)
theorem dX3_beats_33 : decode cX3_beats 33 = .ok (.iload_n 1, 1) := dk_27 (dk_at dksX3_beats_1 11 rfl rfl)
theorem dX3_beats_34 : decode cX3_beats 34 = .ok (.invokevirtual 321, 3) := dk_182 1 65 (dk_at dksX3_beats_1 12 rfl rfl)
theorem dX3_beats_37 : decode cX3_beats 37 = .ok (.return_, 1) := dk_177 (dk_at dksX3_beats_1 15 rfl rfl)
theorem dX3_beats_38 : decode cX3_beats 38 = .ok (.aload_n 2, 1) := dk_44 (dk_at dksX3_beats_1 16 rfl rfl)
theorem dX3_beats_39 : decode cX3_beats 39 = .ok (.dup, 1) := dk_89 (dk_at dksX3_beats_1 17 rfl rfl)
theorem dX3_beats_40 : decode cX3_beats 40 = .ok (.getfield 227, 3) := dk_180 0 227 (dk_at dksX3_beats_1 18 rfl rfl)
theorem dX3_beats_43 : decode cX3_beats 43 = .ok (.iconst 1, 1) := dk_4 (dk_at dksX3_beats_1 21 rfl rfl)
theorem dX3_beats_44 : decode cX3_beats 44 = .ok (.iadd, 1) := dk_96 (dk_at dksX3_beats_1 22 rfl rfl)
theorem dX3_beats_45 : decode cX3_beats 45 = .ok (.putfield 227, 3) := dk_181 0 227 (dk_at dksX3_beats_2 0 rfl rfl)
theorem dX3_beats_48 : decode cX3_beats 48 = .ok (.aload_n 2, 1) := dk_44 (dk_at dksX3_beats_2 3 rfl rfl)
theorem dX3_beats_49 : decode cX3_beats 49 = .ok (.getfield 227, 3) := dk_180 0 227 (dk_at dksX3_beats_2 4 rfl rfl)
theorem dX3_beats_52 : decode cX3_beats 52 = .ok (.iconst 3, 1) := dk_6 (dk_at dksX3_beats_2 7 rfl rfl)
theorem dX3_beats_53 : decode cX3_beats 53 = .ok (.if_icmp .ge 4, 3) := dk_162 0 4 (dk_at dksX3_beats_2 8 rfl rfl)
theorem dX3_beats_56 : decode cX3_beats 56 = .ok (.return_, 1) := dk_177 (dk_at dksX3_beats_2 11 rfl rfl)
theorem dX3_beats_57 : decode cX3_beats 57 = .ok (.aload_n 2, 1) := dk_44 (dk_at dksX3_beats_2 12 rfl rfl)
theorem dX3_beats_58 : decode cX3_beats 58 = .ok (.iconst 0, 1) := dk_3 (dk_at dksX3_beats_2 13 rfl rfl)
theorem dX3_beats_59 : decode cX3_beats 59 = .ok (.putfield 227, 3) := dk_181 0 227 (dk_at dksX3_beats_2 14 rfl rfl)
theorem dX3_beats_62 : decode cX3_beats 62 = .ok (.aload_n 2, 1) := dk_44 (dk_at dksX3_beats_2 17 rfl rfl)
theorem dX3_beats_63 : decode cX3_beats 63 = .ok (.dup, 1) := dk_89 (dk_at dksX3_beats_2 18 rfl rfl)
theorem dX3_beats_64 : decode cX3_beats 64 = .ok (.getfield 154, 3) := dk_180 0 154 (dk_at dksX3_beats_2 19 rfl rfl)
theorem dX3_beats_67 : decode cX3_beats 67 = .ok (.iconst 1, 1) := dk_4 (dk_at dksX3_beats_2 22 rfl rfl)
theorem dX3_beats_68 : decode cX3_beats 68 = .ok (.iadd, 1) := dk_96 (dk_at dksX3_beats_2 23 rfl rfl)
theorem dX3_beats_69 : decode cX3_beats 69 = .ok (.putfield 154, 3) := dk_181 0 154 (dk_at dksX3_beats_3 0 rfl rfl)
theorem dX3_beats_72 : decode cX3_beats 72 = .ok (.aload_n 0, 1) := dk_42 (dk_at dksX3_beats_3 3 rfl rfl)
theorem dX3_beats_73 : decode cX3_beats 73 = .ok (.iload_n 1, 1) := dk_27 (dk_at dksX3_beats_3 4 rfl rfl)
theorem dX3_beats_74 : decode cX3_beats 74 = .ok (.invokevirtual 234, 3) := dk_182 0 234 (dk_at dksX3_beats_3 5 rfl rfl)
theorem dX3_beats_77 : decode cX3_beats 77 = .ok (.return_, 1) := dk_177 (dk_at dksX3_beats_3 8 rfl rfl)
abbrev cX3_stands : ByteArray := prog_3_method_16_code
def yX3_stands : MethodName := ⟨RX3, "stands", "(I)V"⟩
def dkwX3_stands_6 : List UInt8 := [182, 0, 142, 132, 3, 1, 167, 255, 202, 177]
abbrev dktX3_stands_6 : List UInt8 := dkwX3_stands_6 ++ []
def dkwX3_stands_5 : List UInt8 := [42, 27, 29, 3, 44, 182, 0, 173, 44, 44, 182, 0, 173, 182, 0, 166, 3, 3, 182, 0, 138, 87, 42]
abbrev dktX3_stands_5 : List UInt8 := dkwX3_stands_5 ++ dktX3_stands_6
def dkwX3_stands_4 : List UInt8 := [16, 7, 162, 0, 54, 29, 27, 159, 0, 43, 44, 182, 0, 188, 29, 184, 0, 191, 154, 0, 6, 167, 0, 29]
abbrev dktX3_stands_4 : List UInt8 := dkwX3_stands_4 ++ dktX3_stands_5
def dkwX3_stands_3 : List UInt8 := [182, 0, 80, 44, 44, 180, 0, 211, 182, 0, 214, 153, 0, 9, 42, 27, 182, 0, 218, 177, 3, 62, 29]
abbrev dktX3_stands_3 : List UInt8 := dkwX3_stands_3 ++ dktX3_stands_4
def dkwX3_stands_2 : List UInt8 := [181, 0, 199, 44, 27, 181, 0, 208, 44, 4, 27, 120, 181, 0, 211, 44, 2, 181, 0, 205, 42, 27]
abbrev dktX3_stands_2 : List UInt8 := dkwX3_stands_2 ++ dktX3_stands_3
def dkwX3_stands_1 : List UInt8 := [17, 3, 231, 160, 0, 9, 42, 27, 182, 0, 80, 177, 44, 89, 180, 0, 92, 4, 96, 181, 0, 92, 44, 4]
abbrev dktX3_stands_1 : List UInt8 := dkwX3_stands_1 ++ dktX3_stands_2
def dkwX3_stands_0 : List UInt8 := [42, 180, 0, 17, 27, 50, 77, 44, 182, 0, 188, 27, 184, 0, 191, 153, 0, 13, 44, 180, 0, 92]
abbrev dktX3_stands_0 : List UInt8 := dkwX3_stands_0 ++ dktX3_stands_1
theorem dksX3_stands_0 : cX3_stands.data.toList.drop 0 = dktX3_stands_0 := by decide +kernel
theorem dksX3_stands_1 : cX3_stands.data.toList.drop 22 = dktX3_stands_1 := dk_seg dksX3_stands_0 22 rfl rfl
theorem dksX3_stands_2 : cX3_stands.data.toList.drop 46 = dktX3_stands_2 := dk_seg dksX3_stands_1 24 rfl rfl
theorem dksX3_stands_3 : cX3_stands.data.toList.drop 68 = dktX3_stands_3 := dk_seg dksX3_stands_2 22 rfl rfl
theorem dksX3_stands_4 : cX3_stands.data.toList.drop 91 = dktX3_stands_4 := dk_seg dksX3_stands_3 23 rfl rfl
theorem dksX3_stands_5 : cX3_stands.data.toList.drop 115 = dktX3_stands_5 := dk_seg dksX3_stands_4 24 rfl rfl
theorem dksX3_stands_6 : cX3_stands.data.toList.drop 138 = dktX3_stands_6 := dk_seg dksX3_stands_5 23 rfl rfl
theorem dX3_stands_0 : decode cX3_stands 0 = .ok (.aload_n 0, 1) := dk_42 (dk_at dksX3_stands_0 0 rfl rfl)
theorem dX3_stands_1 : decode cX3_stands 1 = .ok (.getfield 17, 3) := dk_180 0 17 (dk_at dksX3_stands_0 1 rfl rfl)
theorem dX3_stands_4 : decode cX3_stands 4 = .ok (.iload_n 1, 1) := dk_27 (dk_at dksX3_stands_0 4 rfl rfl)
theorem dX3_stands_5 : decode cX3_stands 5 = .ok (.aaload, 1) := dk_50 (dk_at dksX3_stands_0 5 rfl rfl)
theorem dX3_stands_6 : decode cX3_stands 6 = .ok (.astore_n 2, 1) := dk_77 (dk_at dksX3_stands_0 6 rfl rfl)
theorem dX3_stands_7 : decode cX3_stands 7 = .ok (.aload_n 2, 1) := dk_44 (dk_at dksX3_stands_0 7 rfl rfl)
theorem dX3_stands_8 : decode cX3_stands 8 = .ok (.invokevirtual 188, 3) := dk_182 0 188 (dk_at dksX3_stands_0 8 rfl rfl)
theorem dX3_stands_11 : decode cX3_stands 11 = .ok (.iload_n 1, 1) := dk_27 (dk_at dksX3_stands_0 11 rfl rfl)
theorem dX3_stands_12 : decode cX3_stands 12 = .ok (.invokestatic 191, 3) := dk_184 0 191 (dk_at dksX3_stands_0 12 rfl rfl)
theorem dX3_stands_15 : decode cX3_stands 15 = .ok (.ifCond .eq 13, 3) := dk_153 0 13 (dk_at dksX3_stands_0 15 rfl rfl)
theorem dX3_stands_18 : decode cX3_stands 18 = .ok (.aload_n 2, 1) := dk_44 (dk_at dksX3_stands_0 18 rfl rfl)
theorem dX3_stands_19 : decode cX3_stands 19 = .ok (.getfield 92, 3) := dk_180 0 92 (dk_at dksX3_stands_0 19 rfl rfl)
theorem dX3_stands_22 : decode cX3_stands 22 = .ok (.sipush 999, 3) := dk_17 3 231 (dk_at dksX3_stands_1 0 rfl rfl)
theorem dX3_stands_25 : decode cX3_stands 25 = .ok (.if_icmp .ne 9, 3) := dk_160 0 9 (dk_at dksX3_stands_1 3 rfl rfl)
theorem dX3_stands_28 : decode cX3_stands 28 = .ok (.aload_n 0, 1) := dk_42 (dk_at dksX3_stands_1 6 rfl rfl)
theorem dX3_stands_29 : decode cX3_stands 29 = .ok (.iload_n 1, 1) := dk_27 (dk_at dksX3_stands_1 7 rfl rfl)
theorem dX3_stands_30 : decode cX3_stands 30 = .ok (.invokevirtual 80, 3) := dk_182 0 80 (dk_at dksX3_stands_1 8 rfl rfl)
theorem dX3_stands_33 : decode cX3_stands 33 = .ok (.return_, 1) := dk_177 (dk_at dksX3_stands_1 11 rfl rfl)
theorem dX3_stands_34 : decode cX3_stands 34 = .ok (.aload_n 2, 1) := dk_44 (dk_at dksX3_stands_1 12 rfl rfl)
theorem dX3_stands_35 : decode cX3_stands 35 = .ok (.dup, 1) := dk_89 (dk_at dksX3_stands_1 13 rfl rfl)
theorem dX3_stands_36 : decode cX3_stands 36 = .ok (.getfield 92, 3) := dk_180 0 92 (dk_at dksX3_stands_1 14 rfl rfl)
theorem dX3_stands_39 : decode cX3_stands 39 = .ok (.iconst 1, 1) := dk_4 (dk_at dksX3_stands_1 17 rfl rfl)
theorem dX3_stands_40 : decode cX3_stands 40 = .ok (.iadd, 1) := dk_96 (dk_at dksX3_stands_1 18 rfl rfl)
theorem dX3_stands_41 : decode cX3_stands 41 = .ok (.putfield 92, 3) := dk_181 0 92 (dk_at dksX3_stands_1 19 rfl rfl)
theorem dX3_stands_44 : decode cX3_stands 44 = .ok (.aload_n 2, 1) := dk_44 (dk_at dksX3_stands_1 22 rfl rfl)
theorem dX3_stands_45 : decode cX3_stands 45 = .ok (.iconst 1, 1) := dk_4 (dk_at dksX3_stands_1 23 rfl rfl)
theorem dX3_stands_46 : decode cX3_stands 46 = .ok (.putfield 199, 3) := dk_181 0 199 (dk_at dksX3_stands_2 0 rfl rfl)
theorem dX3_stands_49 : decode cX3_stands 49 = .ok (.aload_n 2, 1) := dk_44 (dk_at dksX3_stands_2 3 rfl rfl)
theorem dX3_stands_50 : decode cX3_stands 50 = .ok (.iload_n 1, 1) := dk_27 (dk_at dksX3_stands_2 4 rfl rfl)
theorem dX3_stands_51 : decode cX3_stands 51 = .ok (.putfield 208, 3) := dk_181 0 208 (dk_at dksX3_stands_2 5 rfl rfl)
theorem dX3_stands_54 : decode cX3_stands 54 = .ok (.aload_n 2, 1) := dk_44 (dk_at dksX3_stands_2 8 rfl rfl)
theorem dX3_stands_55 : decode cX3_stands 55 = .ok (.iconst 1, 1) := dk_4 (dk_at dksX3_stands_2 9 rfl rfl)
theorem dX3_stands_56 : decode cX3_stands 56 = .ok (.iload_n 1, 1) := dk_27 (dk_at dksX3_stands_2 10 rfl rfl)
theorem dX3_stands_57 : decode cX3_stands 57 = .ok (.ishl, 1) := dk_120 (dk_at dksX3_stands_2 11 rfl rfl)
theorem dX3_stands_58 : decode cX3_stands 58 = .ok (.putfield 211, 3) := dk_181 0 211 (dk_at dksX3_stands_2 12 rfl rfl)
theorem dX3_stands_61 : decode cX3_stands 61 = .ok (.aload_n 2, 1) := dk_44 (dk_at dksX3_stands_2 15 rfl rfl)
theorem dX3_stands_62 : decode cX3_stands 62 = .ok (.iconst (-1), 1) := dk_2 (dk_at dksX3_stands_2 16 rfl rfl)
theorem dX3_stands_63 : decode cX3_stands 63 = .ok (.putfield 205, 3) := dk_181 0 205 (dk_at dksX3_stands_2 17 rfl rfl)
theorem dX3_stands_66 : decode cX3_stands 66 = .ok (.aload_n 0, 1) := dk_42 (dk_at dksX3_stands_2 20 rfl rfl)
theorem dX3_stands_67 : decode cX3_stands 67 = .ok (.iload_n 1, 1) := dk_27 (dk_at dksX3_stands_2 21 rfl rfl)
theorem dX3_stands_68 : decode cX3_stands 68 = .ok (.invokevirtual 80, 3) := dk_182 0 80 (dk_at dksX3_stands_3 0 rfl rfl)
theorem dX3_stands_71 : decode cX3_stands 71 = .ok (.aload_n 2, 1) := dk_44 (dk_at dksX3_stands_3 3 rfl rfl)
theorem dX3_stands_72 : decode cX3_stands 72 = .ok (.aload_n 2, 1) := dk_44 (dk_at dksX3_stands_3 4 rfl rfl)
theorem dX3_stands_73 : decode cX3_stands 73 = .ok (.getfield 211, 3) := dk_180 0 211 (dk_at dksX3_stands_3 5 rfl rfl)
theorem dX3_stands_76 : decode cX3_stands 76 = .ok (.invokevirtual 214, 3) := dk_182 0 214 (dk_at dksX3_stands_3 8 rfl rfl)
theorem dX3_stands_79 : decode cX3_stands 79 = .ok (.ifCond .eq 9, 3) := dk_153 0 9 (dk_at dksX3_stands_3 11 rfl rfl)
theorem dX3_stands_82 : decode cX3_stands 82 = .ok (.aload_n 0, 1) := dk_42 (dk_at dksX3_stands_3 14 rfl rfl)
theorem dX3_stands_83 : decode cX3_stands 83 = .ok (.iload_n 1, 1) := dk_27 (dk_at dksX3_stands_3 15 rfl rfl)
theorem dX3_stands_84 : decode cX3_stands 84 = .ok (.invokevirtual 218, 3) := dk_182 0 218 (dk_at dksX3_stands_3 16 rfl rfl)
theorem dX3_stands_87 : decode cX3_stands 87 = .ok (.return_, 1) := dk_177 (dk_at dksX3_stands_3 19 rfl rfl)
theorem dX3_stands_88 : decode cX3_stands 88 = .ok (.iconst 0, 1) := dk_3 (dk_at dksX3_stands_3 20 rfl rfl)
theorem dX3_stands_89 : decode cX3_stands 89 = .ok (.istore_n 3, 1) := dk_62 (dk_at dksX3_stands_3 21 rfl rfl)
theorem dX3_stands_90 : decode cX3_stands 90 = .ok (.iload_n 3, 1) := dk_29 (dk_at dksX3_stands_3 22 rfl rfl)
theorem dX3_stands_91 : decode cX3_stands 91 = .ok (.bipush 7, 2) := dk_16 7 (dk_at dksX3_stands_4 0 rfl rfl)
theorem dX3_stands_93 : decode cX3_stands 93 = .ok (.if_icmp .ge 54, 3) := dk_162 0 54 (dk_at dksX3_stands_4 2 rfl rfl)
theorem dX3_stands_96 : decode cX3_stands 96 = .ok (.iload_n 3, 1) := dk_29 (dk_at dksX3_stands_4 5 rfl rfl)
theorem dX3_stands_97 : decode cX3_stands 97 = .ok (.iload_n 1, 1) := dk_27 (dk_at dksX3_stands_4 6 rfl rfl)
theorem dX3_stands_98 : decode cX3_stands 98 = .ok (.if_icmp .eq 43, 3) := dk_159 0 43 (dk_at dksX3_stands_4 7 rfl rfl)
theorem dX3_stands_101 : decode cX3_stands 101 = .ok (.aload_n 2, 1) := dk_44 (dk_at dksX3_stands_4 10 rfl rfl)
theorem dX3_stands_102 : decode cX3_stands 102 = .ok (.invokevirtual 188, 3) := dk_182 0 188 (dk_at dksX3_stands_4 11 rfl rfl)
theorem dX3_stands_105 : decode cX3_stands 105 = .ok (.iload_n 3, 1) := dk_29 (dk_at dksX3_stands_4 14 rfl rfl)
theorem dX3_stands_106 : decode cX3_stands 106 = .ok (.invokestatic 191, 3) := dk_184 0 191 (dk_at dksX3_stands_4 15 rfl rfl)
theorem dX3_stands_109 : decode cX3_stands 109 = .ok (.ifCond .ne 6, 3) := dk_154 0 6 (dk_at dksX3_stands_4 18 rfl rfl)
theorem dX3_stands_112 : decode cX3_stands 112 = .ok (.goto 29, 3) := dk_167 0 29 (dk_at dksX3_stands_4 21 rfl rfl)
theorem dX3_stands_115 : decode cX3_stands 115 = .ok (.aload_n 0, 1) := dk_42 (dk_at dksX3_stands_5 0 rfl rfl)
theorem dX3_stands_116 : decode cX3_stands 116 = .ok (.iload_n 1, 1) := dk_27 (dk_at dksX3_stands_5 1 rfl rfl)
theorem dX3_stands_117 : decode cX3_stands 117 = .ok (.iload_n 3, 1) := dk_29 (dk_at dksX3_stands_5 2 rfl rfl)
theorem dX3_stands_118 : decode cX3_stands 118 = .ok (.iconst 0, 1) := dk_3 (dk_at dksX3_stands_5 3 rfl rfl)
theorem dX3_stands_119 : decode cX3_stands 119 = .ok (.aload_n 2, 1) := dk_44 (dk_at dksX3_stands_5 4 rfl rfl)
theorem dX3_stands_120 : decode cX3_stands 120 = .ok (.invokevirtual 173, 3) := dk_182 0 173 (dk_at dksX3_stands_5 5 rfl rfl)
theorem dX3_stands_123 : decode cX3_stands 123 = .ok (.aload_n 2, 1) := dk_44 (dk_at dksX3_stands_5 8 rfl rfl)
theorem dX3_stands_124 : decode cX3_stands 124 = .ok (.aload_n 2, 1) := dk_44 (dk_at dksX3_stands_5 9 rfl rfl)
theorem dX3_stands_125 : decode cX3_stands 125 = .ok (.invokevirtual 173, 3) := dk_182 0 173 (dk_at dksX3_stands_5 10 rfl rfl)
theorem dX3_stands_128 : decode cX3_stands 128 = .ok (.invokevirtual 166, 3) := dk_182 0 166 (dk_at dksX3_stands_5 13 rfl rfl)
theorem dX3_stands_131 : decode cX3_stands 131 = .ok (.iconst 0, 1) := dk_3 (dk_at dksX3_stands_5 16 rfl rfl)
theorem dX3_stands_132 : decode cX3_stands 132 = .ok (.iconst 0, 1) := dk_3 (dk_at dksX3_stands_5 17 rfl rfl)
theorem dX3_stands_133 : decode cX3_stands 133 = .ok (.invokevirtual 138, 3) := dk_182 0 138 (dk_at dksX3_stands_5 18 rfl rfl)
theorem dX3_stands_136 : decode cX3_stands 136 = .ok (.pop, 1) := dk_87 (dk_at dksX3_stands_5 21 rfl rfl)
theorem dX3_stands_137 : decode cX3_stands 137 = .ok (.aload_n 0, 1) := dk_42 (dk_at dksX3_stands_5 22 rfl rfl)
theorem dX3_stands_138 : decode cX3_stands 138 = .ok (.invokevirtual 142, 3) := dk_182 0 142 (dk_at dksX3_stands_6 0 rfl rfl)
theorem dX3_stands_141 : decode cX3_stands 141 = .ok (.iinc 3 1, 3) := dk_132 3 1 (dk_at dksX3_stands_6 3 rfl rfl)
theorem dX3_stands_144 : decode cX3_stands 144 = .ok (.goto (-54), 3) := dk_167 255 202 (dk_at dksX3_stands_6 6 rfl rfl)
theorem dX3_stands_147 : decode cX3_stands 147 = .ok (.return_, 1) := dk_177 (dk_at dksX3_stands_6 9 rfl rfl)
abbrev cX3_takes : ByteArray := prog_3_method_2_code
def yX3_takes : MethodName := ⟨RX3, "takes", "(LTermLog$Cluster;)LTermLog$Cluster;"⟩
def dkwX3_takes_8 : List UInt8 := [181, 0, 67, 42, 43, 180, 0, 70, 181, 0, 70, 42, 43, 180, 0, 73, 181, 0, 73, 42, 176]
abbrev dktX3_takes_8 : List UInt8 := dkwX3_takes_8 ++ []
def dkwX3_takes_7 : List UInt8 := [180, 0, 36, 42, 180, 0, 36, 182, 0, 54, 42, 43, 180, 0, 64, 181, 0, 64, 42, 43, 180, 0, 67]
abbrev dktX3_takes_7 : List UInt8 := dkwX3_takes_7 ++ dktX3_takes_8
def dkwX3_takes_6 : List UInt8 := [42, 43, 180, 0, 29, 28, 50, 42, 180, 0, 29, 28, 50, 182, 0, 54, 132, 2, 1, 167, 255, 229, 42, 43]
abbrev dktX3_takes_6 : List UInt8 := dkwX3_takes_6 ++ dktX3_takes_7
def dkwX3_takes_5 : List UInt8 := [132, 2, 1, 167, 255, 229, 42, 43, 180, 0, 61, 181, 0, 61, 3, 61, 28, 42, 180, 0, 61, 162, 0, 25]
abbrev dktX3_takes_5 : List UInt8 := dkwX3_takes_5 ++ dktX3_takes_6
def dkwX3_takes_4 : List UInt8 := [180, 0, 58, 163, 0, 25, 42, 43, 180, 0, 26, 28, 50, 42, 180, 0, 26, 28, 50, 182, 0, 54]
abbrev dktX3_takes_4 : List UInt8 := dkwX3_takes_4 ++ dktX3_takes_5
def dkwX3_takes_3 : List UInt8 := [28, 50, 182, 0, 54, 132, 2, 1, 167, 255, 229, 42, 43, 180, 0, 58, 181, 0, 58, 4, 61, 28, 42]
abbrev dktX3_takes_3 : List UInt8 := dkwX3_takes_3 ++ dktX3_takes_4
def dkwX3_takes_2 : List UInt8 := [181, 0, 50, 3, 61, 28, 42, 180, 0, 50, 162, 0, 25, 42, 43, 180, 0, 23, 28, 50, 42, 180, 0, 23]
abbrev dktX3_takes_2 : List UInt8 := dkwX3_takes_2 ++ dktX3_takes_3
def dkwX3_takes_1 : List UInt8 := [180, 0, 32, 28, 43, 180, 0, 32, 28, 46, 79, 132, 2, 1, 167, 255, 220, 42, 43, 180, 0, 50]
abbrev dktX3_takes_1 : List UInt8 := dkwX3_takes_1 ++ dktX3_takes_2
def dkwX3_takes_0 : List UInt8 := [3, 61, 28, 16, 7, 162, 0, 36, 42, 180, 0, 17, 28, 50, 43, 180, 0, 17, 28, 50, 182, 0, 46, 42]
abbrev dktX3_takes_0 : List UInt8 := dkwX3_takes_0 ++ dktX3_takes_1
theorem dksX3_takes_0 : cX3_takes.data.toList.drop 0 = dktX3_takes_0 := by decide +kernel
theorem dksX3_takes_1 : cX3_takes.data.toList.drop 24 = dktX3_takes_1 := dk_seg dksX3_takes_0 24 rfl rfl
theorem dksX3_takes_2 : cX3_takes.data.toList.drop 46 = dktX3_takes_2 := dk_seg dksX3_takes_1 22 rfl rfl
theorem dksX3_takes_3 : cX3_takes.data.toList.drop 70 = dktX3_takes_3 := dk_seg dksX3_takes_2 24 rfl rfl
theorem dksX3_takes_4 : cX3_takes.data.toList.drop 93 = dktX3_takes_4 := dk_seg dksX3_takes_3 23 rfl rfl
theorem dksX3_takes_5 : cX3_takes.data.toList.drop 115 = dktX3_takes_5 := dk_seg dksX3_takes_4 22 rfl rfl
theorem dksX3_takes_6 : cX3_takes.data.toList.drop 139 = dktX3_takes_6 := dk_seg dksX3_takes_5 24 rfl rfl
theorem dksX3_takes_7 : cX3_takes.data.toList.drop 163 = dktX3_takes_7 := dk_seg dksX3_takes_6 24 rfl rfl
theorem dksX3_takes_8 : cX3_takes.data.toList.drop 186 = dktX3_takes_8 := dk_seg dksX3_takes_7 23 rfl rfl
theorem dX3_takes_0 : decode cX3_takes 0 = .ok (.iconst 0, 1) := dk_3 (dk_at dksX3_takes_0 0 rfl rfl)
theorem dX3_takes_1 : decode cX3_takes 1 = .ok (.istore_n 2, 1) := dk_61 (dk_at dksX3_takes_0 1 rfl rfl)
theorem dX3_takes_2 : decode cX3_takes 2 = .ok (.iload_n 2, 1) := dk_28 (dk_at dksX3_takes_0 2 rfl rfl)
theorem dX3_takes_3 : decode cX3_takes 3 = .ok (.bipush 7, 2) := dk_16 7 (dk_at dksX3_takes_0 3 rfl rfl)
theorem dX3_takes_5 : decode cX3_takes 5 = .ok (.if_icmp .ge 36, 3) := dk_162 0 36 (dk_at dksX3_takes_0 5 rfl rfl)
theorem dX3_takes_8 : decode cX3_takes 8 = .ok (.aload_n 0, 1) := dk_42 (dk_at dksX3_takes_0 8 rfl rfl)
theorem dX3_takes_9 : decode cX3_takes 9 = .ok (.getfield 17, 3) := dk_180 0 17 (dk_at dksX3_takes_0 9 rfl rfl)
theorem dX3_takes_12 : decode cX3_takes 12 = .ok (.iload_n 2, 1) := dk_28 (dk_at dksX3_takes_0 12 rfl rfl)
theorem dX3_takes_13 : decode cX3_takes 13 = .ok (.aaload, 1) := dk_50 (dk_at dksX3_takes_0 13 rfl rfl)
theorem dX3_takes_14 : decode cX3_takes 14 = .ok (.aload_n 1, 1) := dk_43 (dk_at dksX3_takes_0 14 rfl rfl)
theorem dX3_takes_15 : decode cX3_takes 15 = .ok (.getfield 17, 3) := dk_180 0 17 (dk_at dksX3_takes_0 15 rfl rfl)
theorem dX3_takes_18 : decode cX3_takes 18 = .ok (.iload_n 2, 1) := dk_28 (dk_at dksX3_takes_0 18 rfl rfl)
theorem dX3_takes_19 : decode cX3_takes 19 = .ok (.aaload, 1) := dk_50 (dk_at dksX3_takes_0 19 rfl rfl)
theorem dX3_takes_20 : decode cX3_takes 20 = .ok (.invokevirtual 46, 3) := dk_182 0 46 (dk_at dksX3_takes_0 20 rfl rfl)
theorem dX3_takes_23 : decode cX3_takes 23 = .ok (.aload_n 0, 1) := dk_42 (dk_at dksX3_takes_0 23 rfl rfl)
theorem dX3_takes_24 : decode cX3_takes 24 = .ok (.getfield 32, 3) := dk_180 0 32 (dk_at dksX3_takes_1 0 rfl rfl)
theorem dX3_takes_27 : decode cX3_takes 27 = .ok (.iload_n 2, 1) := dk_28 (dk_at dksX3_takes_1 3 rfl rfl)
theorem dX3_takes_28 : decode cX3_takes 28 = .ok (.aload_n 1, 1) := dk_43 (dk_at dksX3_takes_1 4 rfl rfl)
theorem dX3_takes_29 : decode cX3_takes 29 = .ok (.getfield 32, 3) := dk_180 0 32 (dk_at dksX3_takes_1 5 rfl rfl)
theorem dX3_takes_32 : decode cX3_takes 32 = .ok (.iload_n 2, 1) := dk_28 (dk_at dksX3_takes_1 8 rfl rfl)
theorem dX3_takes_33 : decode cX3_takes 33 = .ok (.iaload, 1) := dk_46 (dk_at dksX3_takes_1 9 rfl rfl)
theorem dX3_takes_34 : decode cX3_takes 34 = .ok (.iastore, 1) := dk_79 (dk_at dksX3_takes_1 10 rfl rfl)
theorem dX3_takes_35 : decode cX3_takes 35 = .ok (.iinc 2 1, 3) := dk_132 2 1 (dk_at dksX3_takes_1 11 rfl rfl)
theorem dX3_takes_38 : decode cX3_takes 38 = .ok (.goto (-36), 3) := dk_167 255 220 (dk_at dksX3_takes_1 14 rfl rfl)
theorem dX3_takes_41 : decode cX3_takes 41 = .ok (.aload_n 0, 1) := dk_42 (dk_at dksX3_takes_1 17 rfl rfl)
theorem dX3_takes_42 : decode cX3_takes 42 = .ok (.aload_n 1, 1) := dk_43 (dk_at dksX3_takes_1 18 rfl rfl)
theorem dX3_takes_43 : decode cX3_takes 43 = .ok (.getfield 50, 3) := dk_180 0 50 (dk_at dksX3_takes_1 19 rfl rfl)
theorem dX3_takes_46 : decode cX3_takes 46 = .ok (.putfield 50, 3) := dk_181 0 50 (dk_at dksX3_takes_2 0 rfl rfl)
theorem dX3_takes_49 : decode cX3_takes 49 = .ok (.iconst 0, 1) := dk_3 (dk_at dksX3_takes_2 3 rfl rfl)
theorem dX3_takes_50 : decode cX3_takes 50 = .ok (.istore_n 2, 1) := dk_61 (dk_at dksX3_takes_2 4 rfl rfl)
theorem dX3_takes_51 : decode cX3_takes 51 = .ok (.iload_n 2, 1) := dk_28 (dk_at dksX3_takes_2 5 rfl rfl)
theorem dX3_takes_52 : decode cX3_takes 52 = .ok (.aload_n 0, 1) := dk_42 (dk_at dksX3_takes_2 6 rfl rfl)
theorem dX3_takes_53 : decode cX3_takes 53 = .ok (.getfield 50, 3) := dk_180 0 50 (dk_at dksX3_takes_2 7 rfl rfl)
theorem dX3_takes_56 : decode cX3_takes 56 = .ok (.if_icmp .ge 25, 3) := dk_162 0 25 (dk_at dksX3_takes_2 10 rfl rfl)
theorem dX3_takes_59 : decode cX3_takes 59 = .ok (.aload_n 0, 1) := dk_42 (dk_at dksX3_takes_2 13 rfl rfl)
theorem dX3_takes_60 : decode cX3_takes 60 = .ok (.aload_n 1, 1) := dk_43 (dk_at dksX3_takes_2 14 rfl rfl)
theorem dX3_takes_61 : decode cX3_takes 61 = .ok (.getfield 23, 3) := dk_180 0 23 (dk_at dksX3_takes_2 15 rfl rfl)
theorem dX3_takes_64 : decode cX3_takes 64 = .ok (.iload_n 2, 1) := dk_28 (dk_at dksX3_takes_2 18 rfl rfl)
theorem dX3_takes_65 : decode cX3_takes 65 = .ok (.aaload, 1) := dk_50 (dk_at dksX3_takes_2 19 rfl rfl)
theorem dX3_takes_66 : decode cX3_takes 66 = .ok (.aload_n 0, 1) := dk_42 (dk_at dksX3_takes_2 20 rfl rfl)
theorem dX3_takes_67 : decode cX3_takes 67 = .ok (.getfield 23, 3) := dk_180 0 23 (dk_at dksX3_takes_2 21 rfl rfl)
theorem dX3_takes_70 : decode cX3_takes 70 = .ok (.iload_n 2, 1) := dk_28 (dk_at dksX3_takes_3 0 rfl rfl)
theorem dX3_takes_71 : decode cX3_takes 71 = .ok (.aaload, 1) := dk_50 (dk_at dksX3_takes_3 1 rfl rfl)
theorem dX3_takes_72 : decode cX3_takes 72 = .ok (.invokevirtual 54, 3) := dk_182 0 54 (dk_at dksX3_takes_3 2 rfl rfl)
theorem dX3_takes_75 : decode cX3_takes 75 = .ok (.iinc 2 1, 3) := dk_132 2 1 (dk_at dksX3_takes_3 5 rfl rfl)
theorem dX3_takes_78 : decode cX3_takes 78 = .ok (.goto (-27), 3) := dk_167 255 229 (dk_at dksX3_takes_3 8 rfl rfl)
theorem dX3_takes_81 : decode cX3_takes 81 = .ok (.aload_n 0, 1) := dk_42 (dk_at dksX3_takes_3 11 rfl rfl)
theorem dX3_takes_82 : decode cX3_takes 82 = .ok (.aload_n 1, 1) := dk_43 (dk_at dksX3_takes_3 12 rfl rfl)
theorem dX3_takes_83 : decode cX3_takes 83 = .ok (.getfield 58, 3) := dk_180 0 58 (dk_at dksX3_takes_3 13 rfl rfl)
theorem dX3_takes_86 : decode cX3_takes 86 = .ok (.putfield 58, 3) := dk_181 0 58 (dk_at dksX3_takes_3 16 rfl rfl)
theorem dX3_takes_89 : decode cX3_takes 89 = .ok (.iconst 1, 1) := dk_4 (dk_at dksX3_takes_3 19 rfl rfl)
theorem dX3_takes_90 : decode cX3_takes 90 = .ok (.istore_n 2, 1) := dk_61 (dk_at dksX3_takes_3 20 rfl rfl)
theorem dX3_takes_91 : decode cX3_takes 91 = .ok (.iload_n 2, 1) := dk_28 (dk_at dksX3_takes_3 21 rfl rfl)
theorem dX3_takes_92 : decode cX3_takes 92 = .ok (.aload_n 0, 1) := dk_42 (dk_at dksX3_takes_3 22 rfl rfl)
theorem dX3_takes_93 : decode cX3_takes 93 = .ok (.getfield 58, 3) := dk_180 0 58 (dk_at dksX3_takes_4 0 rfl rfl)
theorem dX3_takes_96 : decode cX3_takes 96 = .ok (.if_icmp .gt 25, 3) := dk_163 0 25 (dk_at dksX3_takes_4 3 rfl rfl)
theorem dX3_takes_99 : decode cX3_takes 99 = .ok (.aload_n 0, 1) := dk_42 (dk_at dksX3_takes_4 6 rfl rfl)
theorem dX3_takes_100 : decode cX3_takes 100 = .ok (.aload_n 1, 1) := dk_43 (dk_at dksX3_takes_4 7 rfl rfl)
theorem dX3_takes_101 : decode cX3_takes 101 = .ok (.getfield 26, 3) := dk_180 0 26 (dk_at dksX3_takes_4 8 rfl rfl)
theorem dX3_takes_104 : decode cX3_takes 104 = .ok (.iload_n 2, 1) := dk_28 (dk_at dksX3_takes_4 11 rfl rfl)
theorem dX3_takes_105 : decode cX3_takes 105 = .ok (.aaload, 1) := dk_50 (dk_at dksX3_takes_4 12 rfl rfl)
theorem dX3_takes_106 : decode cX3_takes 106 = .ok (.aload_n 0, 1) := dk_42 (dk_at dksX3_takes_4 13 rfl rfl)
theorem dX3_takes_107 : decode cX3_takes 107 = .ok (.getfield 26, 3) := dk_180 0 26 (dk_at dksX3_takes_4 14 rfl rfl)
theorem dX3_takes_110 : decode cX3_takes 110 = .ok (.iload_n 2, 1) := dk_28 (dk_at dksX3_takes_4 17 rfl rfl)
theorem dX3_takes_111 : decode cX3_takes 111 = .ok (.aaload, 1) := dk_50 (dk_at dksX3_takes_4 18 rfl rfl)
theorem dX3_takes_112 : decode cX3_takes 112 = .ok (.invokevirtual 54, 3) := dk_182 0 54 (dk_at dksX3_takes_4 19 rfl rfl)
theorem dX3_takes_115 : decode cX3_takes 115 = .ok (.iinc 2 1, 3) := dk_132 2 1 (dk_at dksX3_takes_5 0 rfl rfl)
theorem dX3_takes_118 : decode cX3_takes 118 = .ok (.goto (-27), 3) := dk_167 255 229 (dk_at dksX3_takes_5 3 rfl rfl)
theorem dX3_takes_121 : decode cX3_takes 121 = .ok (.aload_n 0, 1) := dk_42 (dk_at dksX3_takes_5 6 rfl rfl)
theorem dX3_takes_122 : decode cX3_takes 122 = .ok (.aload_n 1, 1) := dk_43 (dk_at dksX3_takes_5 7 rfl rfl)
theorem dX3_takes_123 : decode cX3_takes 123 = .ok (.getfield 61, 3) := dk_180 0 61 (dk_at dksX3_takes_5 8 rfl rfl)
theorem dX3_takes_126 : decode cX3_takes 126 = .ok (.putfield 61, 3) := dk_181 0 61 (dk_at dksX3_takes_5 11 rfl rfl)
theorem dX3_takes_129 : decode cX3_takes 129 = .ok (.iconst 0, 1) := dk_3 (dk_at dksX3_takes_5 14 rfl rfl)
theorem dX3_takes_130 : decode cX3_takes 130 = .ok (.istore_n 2, 1) := dk_61 (dk_at dksX3_takes_5 15 rfl rfl)
theorem dX3_takes_131 : decode cX3_takes 131 = .ok (.iload_n 2, 1) := dk_28 (dk_at dksX3_takes_5 16 rfl rfl)
theorem dX3_takes_132 : decode cX3_takes 132 = .ok (.aload_n 0, 1) := dk_42 (dk_at dksX3_takes_5 17 rfl rfl)
theorem dX3_takes_133 : decode cX3_takes 133 = .ok (.getfield 61, 3) := dk_180 0 61 (dk_at dksX3_takes_5 18 rfl rfl)
theorem dX3_takes_136 : decode cX3_takes 136 = .ok (.if_icmp .ge 25, 3) := dk_162 0 25 (dk_at dksX3_takes_5 21 rfl rfl)
theorem dX3_takes_139 : decode cX3_takes 139 = .ok (.aload_n 0, 1) := dk_42 (dk_at dksX3_takes_6 0 rfl rfl)
theorem dX3_takes_140 : decode cX3_takes 140 = .ok (.aload_n 1, 1) := dk_43 (dk_at dksX3_takes_6 1 rfl rfl)
theorem dX3_takes_141 : decode cX3_takes 141 = .ok (.getfield 29, 3) := dk_180 0 29 (dk_at dksX3_takes_6 2 rfl rfl)
theorem dX3_takes_144 : decode cX3_takes 144 = .ok (.iload_n 2, 1) := dk_28 (dk_at dksX3_takes_6 5 rfl rfl)
theorem dX3_takes_145 : decode cX3_takes 145 = .ok (.aaload, 1) := dk_50 (dk_at dksX3_takes_6 6 rfl rfl)
theorem dX3_takes_146 : decode cX3_takes 146 = .ok (.aload_n 0, 1) := dk_42 (dk_at dksX3_takes_6 7 rfl rfl)
theorem dX3_takes_147 : decode cX3_takes 147 = .ok (.getfield 29, 3) := dk_180 0 29 (dk_at dksX3_takes_6 8 rfl rfl)
theorem dX3_takes_150 : decode cX3_takes 150 = .ok (.iload_n 2, 1) := dk_28 (dk_at dksX3_takes_6 11 rfl rfl)
theorem dX3_takes_151 : decode cX3_takes 151 = .ok (.aaload, 1) := dk_50 (dk_at dksX3_takes_6 12 rfl rfl)
theorem dX3_takes_152 : decode cX3_takes 152 = .ok (.invokevirtual 54, 3) := dk_182 0 54 (dk_at dksX3_takes_6 13 rfl rfl)
theorem dX3_takes_155 : decode cX3_takes 155 = .ok (.iinc 2 1, 3) := dk_132 2 1 (dk_at dksX3_takes_6 16 rfl rfl)
theorem dX3_takes_158 : decode cX3_takes 158 = .ok (.goto (-27), 3) := dk_167 255 229 (dk_at dksX3_takes_6 19 rfl rfl)
theorem dX3_takes_161 : decode cX3_takes 161 = .ok (.aload_n 0, 1) := dk_42 (dk_at dksX3_takes_6 22 rfl rfl)
theorem dX3_takes_162 : decode cX3_takes 162 = .ok (.aload_n 1, 1) := dk_43 (dk_at dksX3_takes_6 23 rfl rfl)
theorem dX3_takes_163 : decode cX3_takes 163 = .ok (.getfield 36, 3) := dk_180 0 36 (dk_at dksX3_takes_7 0 rfl rfl)
theorem dX3_takes_166 : decode cX3_takes 166 = .ok (.aload_n 0, 1) := dk_42 (dk_at dksX3_takes_7 3 rfl rfl)
theorem dX3_takes_167 : decode cX3_takes 167 = .ok (.getfield 36, 3) := dk_180 0 36 (dk_at dksX3_takes_7 4 rfl rfl)
theorem dX3_takes_170 : decode cX3_takes 170 = .ok (.invokevirtual 54, 3) := dk_182 0 54 (dk_at dksX3_takes_7 7 rfl rfl)
theorem dX3_takes_173 : decode cX3_takes 173 = .ok (.aload_n 0, 1) := dk_42 (dk_at dksX3_takes_7 10 rfl rfl)
theorem dX3_takes_174 : decode cX3_takes 174 = .ok (.aload_n 1, 1) := dk_43 (dk_at dksX3_takes_7 11 rfl rfl)
theorem dX3_takes_175 : decode cX3_takes 175 = .ok (.getfield 64, 3) := dk_180 0 64 (dk_at dksX3_takes_7 12 rfl rfl)
theorem dX3_takes_178 : decode cX3_takes 178 = .ok (.putfield 64, 3) := dk_181 0 64 (dk_at dksX3_takes_7 15 rfl rfl)
theorem dX3_takes_181 : decode cX3_takes 181 = .ok (.aload_n 0, 1) := dk_42 (dk_at dksX3_takes_7 18 rfl rfl)
theorem dX3_takes_182 : decode cX3_takes 182 = .ok (.aload_n 1, 1) := dk_43 (dk_at dksX3_takes_7 19 rfl rfl)
theorem dX3_takes_183 : decode cX3_takes 183 = .ok (.getfield 67, 3) := dk_180 0 67 (dk_at dksX3_takes_7 20 rfl rfl)
theorem dX3_takes_186 : decode cX3_takes 186 = .ok (.putfield 67, 3) := dk_181 0 67 (dk_at dksX3_takes_8 0 rfl rfl)
theorem dX3_takes_189 : decode cX3_takes 189 = .ok (.aload_n 0, 1) := dk_42 (dk_at dksX3_takes_8 3 rfl rfl)
theorem dX3_takes_190 : decode cX3_takes 190 = .ok (.aload_n 1, 1) := dk_43 (dk_at dksX3_takes_8 4 rfl rfl)
theorem dX3_takes_191 : decode cX3_takes 191 = .ok (.getfield 70, 3) := dk_180 0 70 (dk_at dksX3_takes_8 5 rfl rfl)
theorem dX3_takes_194 : decode cX3_takes 194 = .ok (.putfield 70, 3) := dk_181 0 70 (dk_at dksX3_takes_8 8 rfl rfl)
theorem dX3_takes_197 : decode cX3_takes 197 = .ok (.aload_n 0, 1) := dk_42 (dk_at dksX3_takes_8 11 rfl rfl)
theorem dX3_takes_198 : decode cX3_takes 198 = .ok (.aload_n 1, 1) := dk_43 (dk_at dksX3_takes_8 12 rfl rfl)
theorem dX3_takes_199 : decode cX3_takes 199 = .ok (.getfield 73, 3) := dk_180 0 73 (dk_at dksX3_takes_8 13 rfl rfl)
theorem dX3_takes_202 : decode cX3_takes 202 = .ok (.putfield 73, 3) := dk_181 0 73 (dk_at dksX3_takes_8 16 rfl rfl)
theorem dX3_takes_205 : decode cX3_takes 205 = .ok (.aload_n 0, 1) := dk_42 (dk_at dksX3_takes_8 19 rfl rfl)
theorem dX3_takes_206 : decode cX3_takes 206 = .ok (.areturn, 1) := dk_176 (dk_at dksX3_takes_8 20 rfl rfl)
abbrev cX3_leads_2 : ByteArray := prog_3_method_37_code
def yX3_leads_2 : MethodName := ⟨RX3, "leads", "()I"⟩
def dkwX3_leads_2_3 : List UInt8 := [172]
abbrev dktX3_leads_2_3 : List UInt8 := dkwX3_leads_2_3 ++ []
def dkwX3_leads_2_2 : List UInt8 := [180, 0, 92, 42, 180, 0, 17, 27, 50, 180, 0, 92, 164, 0, 5, 28, 60, 132, 2, 1, 167, 255, 193, 27]
abbrev dktX3_leads_2_2 : List UInt8 := dkwX3_leads_2_2 ++ dktX3_leads_2_3
def dkwX3_leads_2_1 : List UInt8 := [180, 0, 17, 28, 50, 180, 0, 199, 5, 160, 0, 32, 27, 16, 254, 159, 0, 24, 42, 180, 0, 17, 28, 50]
abbrev dktX3_leads_2_1 : List UInt8 := dkwX3_leads_2_1 ++ dktX3_leads_2_2
def dkwX3_leads_2_0 : List UInt8 := [16, 254, 60, 3, 61, 28, 16, 7, 162, 0, 63, 42, 180, 0, 17, 28, 50, 180, 1, 44, 153, 0, 45, 42]
abbrev dktX3_leads_2_0 : List UInt8 := dkwX3_leads_2_0 ++ dktX3_leads_2_1
theorem dksX3_leads_2_0 : cX3_leads_2.data.toList.drop 0 = dktX3_leads_2_0 := by decide +kernel
theorem dksX3_leads_2_1 : cX3_leads_2.data.toList.drop 24 = dktX3_leads_2_1 := dk_seg dksX3_leads_2_0 24 rfl rfl
theorem dksX3_leads_2_2 : cX3_leads_2.data.toList.drop 48 = dktX3_leads_2_2 := dk_seg dksX3_leads_2_1 24 rfl rfl
theorem dksX3_leads_2_3 : cX3_leads_2.data.toList.drop 72 = dktX3_leads_2_3 := dk_seg dksX3_leads_2_2 24 rfl rfl
theorem dX3_leads_2_0 : decode cX3_leads_2 0 = .ok (.bipush (-2), 2) := dk_16 254 (dk_at dksX3_leads_2_0 0 rfl rfl)
theorem dX3_leads_2_2 : decode cX3_leads_2 2 = .ok (.istore_n 1, 1) := dk_60 (dk_at dksX3_leads_2_0 2 rfl rfl)
theorem dX3_leads_2_3 : decode cX3_leads_2 3 = .ok (.iconst 0, 1) := dk_3 (dk_at dksX3_leads_2_0 3 rfl rfl)
theorem dX3_leads_2_4 : decode cX3_leads_2 4 = .ok (.istore_n 2, 1) := dk_61 (dk_at dksX3_leads_2_0 4 rfl rfl)
theorem dX3_leads_2_5 : decode cX3_leads_2 5 = .ok (.iload_n 2, 1) := dk_28 (dk_at dksX3_leads_2_0 5 rfl rfl)
theorem dX3_leads_2_6 : decode cX3_leads_2 6 = .ok (.bipush 7, 2) := dk_16 7 (dk_at dksX3_leads_2_0 6 rfl rfl)
theorem dX3_leads_2_8 : decode cX3_leads_2 8 = .ok (.if_icmp .ge 63, 3) := dk_162 0 63 (dk_at dksX3_leads_2_0 8 rfl rfl)
theorem dX3_leads_2_11 : decode cX3_leads_2 11 = .ok (.aload_n 0, 1) := dk_42 (dk_at dksX3_leads_2_0 11 rfl rfl)
theorem dX3_leads_2_12 : decode cX3_leads_2 12 = .ok (.getfield 17, 3) := dk_180 0 17 (dk_at dksX3_leads_2_0 12 rfl rfl)
theorem dX3_leads_2_15 : decode cX3_leads_2 15 = .ok (.iload_n 2, 1) := dk_28 (dk_at dksX3_leads_2_0 15 rfl rfl)
theorem dX3_leads_2_16 : decode cX3_leads_2 16 = .ok (.aaload, 1) := dk_50 (dk_at dksX3_leads_2_0 16 rfl rfl)
theorem dX3_leads_2_17 : decode cX3_leads_2 17 = .ok (.getfield 300, 3) := dk_180 1 44 (dk_at dksX3_leads_2_0 17 rfl rfl)
theorem dX3_leads_2_20 : decode cX3_leads_2 20 = .ok (.ifCond .eq 45, 3) := dk_153 0 45 (dk_at dksX3_leads_2_0 20 rfl rfl)
theorem dX3_leads_2_23 : decode cX3_leads_2 23 = .ok (.aload_n 0, 1) := dk_42 (dk_at dksX3_leads_2_0 23 rfl rfl)
theorem dX3_leads_2_24 : decode cX3_leads_2 24 = .ok (.getfield 17, 3) := dk_180 0 17 (dk_at dksX3_leads_2_1 0 rfl rfl)
theorem dX3_leads_2_27 : decode cX3_leads_2 27 = .ok (.iload_n 2, 1) := dk_28 (dk_at dksX3_leads_2_1 3 rfl rfl)
theorem dX3_leads_2_28 : decode cX3_leads_2 28 = .ok (.aaload, 1) := dk_50 (dk_at dksX3_leads_2_1 4 rfl rfl)
theorem dX3_leads_2_29 : decode cX3_leads_2 29 = .ok (.getfield 199, 3) := dk_180 0 199 (dk_at dksX3_leads_2_1 5 rfl rfl)
theorem dX3_leads_2_32 : decode cX3_leads_2 32 = .ok (.iconst 2, 1) := dk_5 (dk_at dksX3_leads_2_1 8 rfl rfl)
theorem dX3_leads_2_33 : decode cX3_leads_2 33 = .ok (.if_icmp .ne 32, 3) := dk_160 0 32 (dk_at dksX3_leads_2_1 9 rfl rfl)
theorem dX3_leads_2_36 : decode cX3_leads_2 36 = .ok (.iload_n 1, 1) := dk_27 (dk_at dksX3_leads_2_1 12 rfl rfl)
theorem dX3_leads_2_37 : decode cX3_leads_2 37 = .ok (.bipush (-2), 2) := dk_16 254 (dk_at dksX3_leads_2_1 13 rfl rfl)
theorem dX3_leads_2_39 : decode cX3_leads_2 39 = .ok (.if_icmp .eq 24, 3) := dk_159 0 24 (dk_at dksX3_leads_2_1 15 rfl rfl)
theorem dX3_leads_2_42 : decode cX3_leads_2 42 = .ok (.aload_n 0, 1) := dk_42 (dk_at dksX3_leads_2_1 18 rfl rfl)
theorem dX3_leads_2_43 : decode cX3_leads_2 43 = .ok (.getfield 17, 3) := dk_180 0 17 (dk_at dksX3_leads_2_1 19 rfl rfl)
theorem dX3_leads_2_46 : decode cX3_leads_2 46 = .ok (.iload_n 2, 1) := dk_28 (dk_at dksX3_leads_2_1 22 rfl rfl)
theorem dX3_leads_2_47 : decode cX3_leads_2 47 = .ok (.aaload, 1) := dk_50 (dk_at dksX3_leads_2_1 23 rfl rfl)
theorem dX3_leads_2_48 : decode cX3_leads_2 48 = .ok (.getfield 92, 3) := dk_180 0 92 (dk_at dksX3_leads_2_2 0 rfl rfl)
theorem dX3_leads_2_51 : decode cX3_leads_2 51 = .ok (.aload_n 0, 1) := dk_42 (dk_at dksX3_leads_2_2 3 rfl rfl)
theorem dX3_leads_2_52 : decode cX3_leads_2 52 = .ok (.getfield 17, 3) := dk_180 0 17 (dk_at dksX3_leads_2_2 4 rfl rfl)
theorem dX3_leads_2_55 : decode cX3_leads_2 55 = .ok (.iload_n 1, 1) := dk_27 (dk_at dksX3_leads_2_2 7 rfl rfl)
theorem dX3_leads_2_56 : decode cX3_leads_2 56 = .ok (.aaload, 1) := dk_50 (dk_at dksX3_leads_2_2 8 rfl rfl)
theorem dX3_leads_2_57 : decode cX3_leads_2 57 = .ok (.getfield 92, 3) := dk_180 0 92 (dk_at dksX3_leads_2_2 9 rfl rfl)
theorem dX3_leads_2_60 : decode cX3_leads_2 60 = .ok (.if_icmp .le 5, 3) := dk_164 0 5 (dk_at dksX3_leads_2_2 12 rfl rfl)
theorem dX3_leads_2_63 : decode cX3_leads_2 63 = .ok (.iload_n 2, 1) := dk_28 (dk_at dksX3_leads_2_2 15 rfl rfl)
theorem dX3_leads_2_64 : decode cX3_leads_2 64 = .ok (.istore_n 1, 1) := dk_60 (dk_at dksX3_leads_2_2 16 rfl rfl)
theorem dX3_leads_2_65 : decode cX3_leads_2 65 = .ok (.iinc 2 1, 3) := dk_132 2 1 (dk_at dksX3_leads_2_2 17 rfl rfl)
theorem dX3_leads_2_68 : decode cX3_leads_2 68 = .ok (.goto (-63), 3) := dk_167 255 193 (dk_at dksX3_leads_2_2 20 rfl rfl)
theorem dX3_leads_2_71 : decode cX3_leads_2 71 = .ok (.iload_n 1, 1) := dk_27 (dk_at dksX3_leads_2_2 23 rfl rfl)
theorem dX3_leads_2_72 : decode cX3_leads_2 72 = .ok (.ireturn, 1) := dk_172 (dk_at dksX3_leads_2_3 0 rfl rfl)
abbrev cX3_haveAllHeld : ByteArray := prog_3_method_41_code
def yX3_haveAllHeld : MethodName := ⟨RX3, "haveAllHeld", "()Z"⟩
def dkwX3_haveAllHeld_2 : List UInt8 := [167, 255, 221, 4, 172]
abbrev dktX3_haveAllHeld_2 : List UInt8 := dkwX3_haveAllHeld_2 ++ []
def dkwX3_haveAllHeld_1 : List UInt8 := [180, 1, 44, 153, 0, 17, 25, 4, 180, 0, 170, 42, 180, 0, 58, 162, 0, 5, 3, 172, 132, 3, 1]
abbrev dktX3_haveAllHeld_1 : List UInt8 := dkwX3_haveAllHeld_1 ++ dktX3_haveAllHeld_2
def dkwX3_haveAllHeld_0 : List UInt8 := [42, 180, 0, 17, 76, 43, 190, 61, 3, 62, 29, 28, 162, 0, 36, 43, 29, 50, 58, 4, 25, 4]
abbrev dktX3_haveAllHeld_0 : List UInt8 := dkwX3_haveAllHeld_0 ++ dktX3_haveAllHeld_1
theorem dksX3_haveAllHeld_0 : cX3_haveAllHeld.data.toList.drop 0 = dktX3_haveAllHeld_0 := by decide +kernel
theorem dksX3_haveAllHeld_1 : cX3_haveAllHeld.data.toList.drop 22 = dktX3_haveAllHeld_1 := dk_seg dksX3_haveAllHeld_0 22 rfl rfl
theorem dksX3_haveAllHeld_2 : cX3_haveAllHeld.data.toList.drop 45 = dktX3_haveAllHeld_2 := dk_seg dksX3_haveAllHeld_1 23 rfl rfl
theorem dX3_haveAllHeld_0 : decode cX3_haveAllHeld 0 = .ok (.aload_n 0, 1) := dk_42 (dk_at dksX3_haveAllHeld_0 0 rfl rfl)
theorem dX3_haveAllHeld_1 : decode cX3_haveAllHeld 1 = .ok (.getfield 17, 3) := dk_180 0 17 (dk_at dksX3_haveAllHeld_0 1 rfl rfl)
theorem dX3_haveAllHeld_4 : decode cX3_haveAllHeld 4 = .ok (.astore_n 1, 1) := dk_76 (dk_at dksX3_haveAllHeld_0 4 rfl rfl)
theorem dX3_haveAllHeld_5 : decode cX3_haveAllHeld 5 = .ok (.aload_n 1, 1) := dk_43 (dk_at dksX3_haveAllHeld_0 5 rfl rfl)
theorem dX3_haveAllHeld_6 : decode cX3_haveAllHeld 6 = .ok (.arraylength, 1) := dk_190 (dk_at dksX3_haveAllHeld_0 6 rfl rfl)
theorem dX3_haveAllHeld_7 : decode cX3_haveAllHeld 7 = .ok (.istore_n 2, 1) := dk_61 (dk_at dksX3_haveAllHeld_0 7 rfl rfl)
theorem dX3_haveAllHeld_8 : decode cX3_haveAllHeld 8 = .ok (.iconst 0, 1) := dk_3 (dk_at dksX3_haveAllHeld_0 8 rfl rfl)
theorem dX3_haveAllHeld_9 : decode cX3_haveAllHeld 9 = .ok (.istore_n 3, 1) := dk_62 (dk_at dksX3_haveAllHeld_0 9 rfl rfl)
theorem dX3_haveAllHeld_10 : decode cX3_haveAllHeld 10 = .ok (.iload_n 3, 1) := dk_29 (dk_at dksX3_haveAllHeld_0 10 rfl rfl)
theorem dX3_haveAllHeld_11 : decode cX3_haveAllHeld 11 = .ok (.iload_n 2, 1) := dk_28 (dk_at dksX3_haveAllHeld_0 11 rfl rfl)
theorem dX3_haveAllHeld_12 : decode cX3_haveAllHeld 12 = .ok (.if_icmp .ge 36, 3) := dk_162 0 36 (dk_at dksX3_haveAllHeld_0 12 rfl rfl)
theorem dX3_haveAllHeld_15 : decode cX3_haveAllHeld 15 = .ok (.aload_n 1, 1) := dk_43 (dk_at dksX3_haveAllHeld_0 15 rfl rfl)
theorem dX3_haveAllHeld_16 : decode cX3_haveAllHeld 16 = .ok (.iload_n 3, 1) := dk_29 (dk_at dksX3_haveAllHeld_0 16 rfl rfl)
theorem dX3_haveAllHeld_17 : decode cX3_haveAllHeld 17 = .ok (.aaload, 1) := dk_50 (dk_at dksX3_haveAllHeld_0 17 rfl rfl)
theorem dX3_haveAllHeld_18 : decode cX3_haveAllHeld 18 = .ok (.astore 4, 2) := dk_58 4 (dk_at dksX3_haveAllHeld_0 18 rfl rfl)
theorem dX3_haveAllHeld_20 : decode cX3_haveAllHeld 20 = .ok (.aload 4, 2) := dk_25 4 (dk_at dksX3_haveAllHeld_0 20 rfl rfl)
theorem dX3_haveAllHeld_22 : decode cX3_haveAllHeld 22 = .ok (.getfield 300, 3) := dk_180 1 44 (dk_at dksX3_haveAllHeld_1 0 rfl rfl)
theorem dX3_haveAllHeld_25 : decode cX3_haveAllHeld 25 = .ok (.ifCond .eq 17, 3) := dk_153 0 17 (dk_at dksX3_haveAllHeld_1 3 rfl rfl)
theorem dX3_haveAllHeld_28 : decode cX3_haveAllHeld 28 = .ok (.aload 4, 2) := dk_25 4 (dk_at dksX3_haveAllHeld_1 6 rfl rfl)
theorem dX3_haveAllHeld_30 : decode cX3_haveAllHeld 30 = .ok (.getfield 170, 3) := dk_180 0 170 (dk_at dksX3_haveAllHeld_1 8 rfl rfl)
theorem dX3_haveAllHeld_33 : decode cX3_haveAllHeld 33 = .ok (.aload_n 0, 1) := dk_42 (dk_at dksX3_haveAllHeld_1 11 rfl rfl)
theorem dX3_haveAllHeld_34 : decode cX3_haveAllHeld 34 = .ok (.getfield 58, 3) := dk_180 0 58 (dk_at dksX3_haveAllHeld_1 12 rfl rfl)
theorem dX3_haveAllHeld_37 : decode cX3_haveAllHeld 37 = .ok (.if_icmp .ge 5, 3) := dk_162 0 5 (dk_at dksX3_haveAllHeld_1 15 rfl rfl)
theorem dX3_haveAllHeld_40 : decode cX3_haveAllHeld 40 = .ok (.iconst 0, 1) := dk_3 (dk_at dksX3_haveAllHeld_1 18 rfl rfl)
theorem dX3_haveAllHeld_41 : decode cX3_haveAllHeld 41 = .ok (.ireturn, 1) := dk_172 (dk_at dksX3_haveAllHeld_1 19 rfl rfl)
theorem dX3_haveAllHeld_42 : decode cX3_haveAllHeld 42 = .ok (.iinc 3 1, 3) := dk_132 3 1 (dk_at dksX3_haveAllHeld_1 20 rfl rfl)
theorem dX3_haveAllHeld_45 : decode cX3_haveAllHeld 45 = .ok (.goto (-35), 3) := dk_167 255 221 (dk_at dksX3_haveAllHeld_2 0 rfl rfl)
theorem dX3_haveAllHeld_48 : decode cX3_haveAllHeld 48 = .ok (.iconst 1, 1) := dk_4 (dk_at dksX3_haveAllHeld_2 3 rfl rfl)
theorem dX3_haveAllHeld_49 : decode cX3_haveAllHeld 49 = .ok (.ireturn, 1) := dk_172 (dk_at dksX3_haveAllHeld_2 4 rfl rfl)
theorem q161 : (Jvm.Cond.initialized "TermLog$Cluster") ∈ lw_all := lw_g (lw_at lw_m1 4 rfl) rfl
theorem q227 : (Jvm.Cond.instantiable "TermLog$Cluster" (17 : Nat)) ∈ lw_all := lw_g (lw_at lw_m1 70 rfl) rfl
theorem q229 : (Jvm.Cond.instanceMethod ({ cls := "TermLog$Cluster", name := "<init>", desc := "(LTermLog;)V" } : Jvm.MethodName)) ∈ lw_all := lw_g (lw_at lw_m1 72 rfl) rfl
theorem q230 : (Jvm.Cond.code ({ cls := "TermLog$Cluster", name := "<init>", desc := "(LTermLog;)V" } : Jvm.MethodName) prog_3_method_1_code (3 : Nat) (Option.none : Option Jvm.ClassFile.FieldType)) ∈ lw_all := lw_g (lw_at lw_m1 73 rfl) rfl
theorem q231 : (Jvm.Cond.methodLink "TermLog$Cluster" (9 : Nat) ({ cls := "java/lang/Object", name := "<init>", desc := "()V" } : Jvm.MethodName)) ∈ lw_all := lw_g (lw_at lw_m1 74 rfl) rfl
theorem q232 : (Jvm.Cond.classLink "TermLog$Cluster" (15 : Nat) "TermLog$Node") ∈ lw_all := lw_g (lw_at lw_m1 75 rfl) rfl
theorem q234 : (Jvm.Cond.classLink "TermLog$Cluster" (21 : Nat) "[[I") ∈ lw_all := lw_g (lw_at lw_m1 77 rfl) rfl
theorem q237 : (Jvm.Cond.methodLinkNest "TermLog$Cluster" (45 : Nat) ({ cls := "TermLog$Node", name := "<init>", desc := "()V" } : Jvm.MethodName) "TermLog") ∈ lw_tbl := lw_at lw_m1 80 rfl
theorem q242 : (Jvm.Cond.fieldLinkNest "TermLog$Cluster" (176 : Nat) "TermLog$Node" "terms" "[I" "TermLog") ∈ lw_tbl := lw_at lw_m1 85 rfl
theorem q245 : (Jvm.Cond.fieldLinkNest "TermLog$Cluster" (179 : Nat) "TermLog$Node" "kinds" "[I" "TermLog") ∈ lw_tbl := lw_at lw_m1 88 rfl
theorem q248 : (Jvm.Cond.fieldLinkNest "TermLog$Cluster" (182 : Nat) "TermLog$Node" "ones" "[I" "TermLog") ∈ lw_tbl := lw_at lw_m1 91 rfl
theorem q251 : (Jvm.Cond.fieldLinkNest "TermLog$Cluster" (185 : Nat) "TermLog$Node" "others" "[I" "TermLog") ∈ lw_tbl := lw_at lw_m1 94 rfl
theorem q254 : (Jvm.Cond.fieldLinkNest "TermLog$Cluster" (251 : Nat) "TermLog$Node" "keys" "[I" "TermLog") ∈ lw_tbl := lw_at lw_m1 97 rfl
theorem q257 : (Jvm.Cond.fieldLinkNest "TermLog$Cluster" (163 : Nat) "TermLog$Node" "baseKeys" "[I" "TermLog") ∈ lw_tbl := lw_at lw_m1 100 rfl
theorem q260 : (Jvm.Cond.fieldLinkNest "TermLog$Cluster" (145 : Nat) "TermLog$Node" "next" "[I" "TermLog") ∈ lw_tbl := lw_at lw_m1 103 rfl
theorem q263 : (Jvm.Cond.fieldLinkNest "TermLog$Cluster" (221 : Nat) "TermLog$Node" "match" "[I" "TermLog") ∈ lw_tbl := lw_at lw_m1 106 rfl
theorem q266 : (Jvm.Cond.fieldLinkNest "TermLog$Cluster" (224 : Nat) "TermLog$Node" "heard" "[I" "TermLog") ∈ lw_tbl := lw_at lw_m1 109 rfl
theorem q269 : (Jvm.Cond.fieldLinkNest "TermLog$Cluster" (92 : Nat) "TermLog$Node" "term" "I" "TermLog") ∈ lw_tbl := lw_at lw_m1 112 rfl
theorem q272 : (Jvm.Cond.fieldLinkNest "TermLog$Cluster" (208 : Nat) "TermLog$Node" "vote" "I" "TermLog") ∈ lw_tbl := lw_at lw_m1 115 rfl
theorem q275 : (Jvm.Cond.fieldLinkNest "TermLog$Cluster" (148 : Nat) "TermLog$Node" "base" "I" "TermLog") ∈ lw_tbl := lw_at lw_m1 118 rfl
theorem q278 : (Jvm.Cond.fieldLinkNest "TermLog$Cluster" (151 : Nat) "TermLog$Node" "baseTerm" "I" "TermLog") ∈ lw_tbl := lw_at lw_m1 121 rfl
theorem q280 : (Jvm.Cond.fieldLinkNest "TermLog$Cluster" (157 : Nat) "TermLog$Node" "baseOld" "I" "TermLog") ∈ lw_tbl := lw_at lw_m1 123 rfl
theorem q282 : (Jvm.Cond.fieldLinkNest "TermLog$Cluster" (160 : Nat) "TermLog$Node" "baseNew" "I" "TermLog") ∈ lw_tbl := lw_at lw_m1 125 rfl
theorem q284 : (Jvm.Cond.fieldLinkNest "TermLog$Cluster" (260 : Nat) "TermLog$Node" "many" "I" "TermLog") ∈ lw_tbl := lw_at lw_m1 127 rfl
theorem q287 : (Jvm.Cond.fieldLinkNest "TermLog$Cluster" (199 : Nat) "TermLog$Node" "role" "I" "TermLog") ∈ lw_tbl := lw_at lw_m1 130 rfl
theorem q289 : (Jvm.Cond.fieldLinkNest "TermLog$Cluster" (170 : Nat) "TermLog$Node" "commit" "I" "TermLog") ∈ lw_tbl := lw_at lw_m1 132 rfl
theorem q292 : (Jvm.Cond.fieldLinkNest "TermLog$Cluster" (124 : Nat) "TermLog$Node" "timer" "I" "TermLog") ∈ lw_tbl := lw_at lw_m1 135 rfl
theorem q295 : (Jvm.Cond.fieldLinkNest "TermLog$Cluster" (205 : Nat) "TermLog$Node" "known" "I" "TermLog") ∈ lw_tbl := lw_at lw_m1 138 rfl
theorem q298 : (Jvm.Cond.fieldLinkNest "TermLog$Cluster" (211 : Nat) "TermLog$Node" "votes" "I" "TermLog") ∈ lw_tbl := lw_at lw_m1 141 rfl
theorem q301 : (Jvm.Cond.fieldLinkNest "TermLog$Cluster" (154 : Nat) "TermLog$Node" "round" "I" "TermLog") ∈ lw_tbl := lw_at lw_m1 144 rfl
theorem q305 : (Jvm.Cond.fieldLinkNest "TermLog$Cluster" (227 : Nat) "TermLog$Node" "heart" "I" "TermLog") ∈ lw_tbl := lw_at lw_m1 148 rfl
theorem q308 : (Jvm.Cond.fieldLinkNest "TermLog$Cluster" (300 : Nat) "TermLog$Node" "isUp" "Z" "TermLog") ∈ lw_tbl := lw_at lw_m1 151 rfl
theorem q359 : (Jvm.Cond.fieldLink "TermLog$Cluster" (17 : Nat) "TermLog$Cluster" "nodes" "[LTermLog$Node;") ∈ lw_all := lw_g (lw_at lw_m1 202 rfl) rfl
theorem q361 : (Jvm.Cond.fieldLink "TermLog$Cluster" (23 : Nat) "TermLog$Cluster" "sent" "[[I") ∈ lw_all := lw_g (lw_at lw_m1 204 rfl) rfl
theorem q363 : (Jvm.Cond.fieldLink "TermLog$Cluster" (26 : Nat) "TermLog$Cluster" "heldEntries" "[[I") ∈ lw_all := lw_g (lw_at lw_m1 206 rfl) rfl
theorem q365 : (Jvm.Cond.fieldLink "TermLog$Cluster" (29 : Nat) "TermLog$Cluster" "reads" "[[I") ∈ lw_all := lw_g (lw_at lw_m1 208 rfl) rfl
theorem q367 : (Jvm.Cond.fieldLink "TermLog$Cluster" (32 : Nat) "TermLog$Cluster" "cuts" "[I") ∈ lw_all := lw_g (lw_at lw_m1 210 rfl) rfl
theorem q369 : (Jvm.Cond.fieldLink "TermLog$Cluster" (36 : Nat) "TermLog$Cluster" "ledBy" "[I") ∈ lw_all := lw_g (lw_at lw_m1 212 rfl) rfl
theorem q370 : (Jvm.Cond.fieldLink "TermLog$Cluster" (39 : Nat) "TermLog$Cluster" "carried" "[I") ∈ lw_all := lw_g (lw_at lw_m1 213 rfl) rfl
theorem q371 : (Jvm.Cond.fieldLink "TermLog$Cluster" (50 : Nat) "TermLog$Cluster" "many" "I") ∈ lw_all := lw_g (lw_at lw_m1 214 rfl) rfl
theorem q373 : (Jvm.Cond.fieldLink "TermLog$Cluster" (64 : Nat) "TermLog$Cluster" "tick" "I") ∈ lw_all := lw_g (lw_at lw_m1 216 rfl) rfl
theorem q375 : (Jvm.Cond.fieldLink "TermLog$Cluster" (67 : Nat) "TermLog$Cluster" "x" "I") ∈ lw_all := lw_g (lw_at lw_m1 218 rfl) rfl
theorem q377 : (Jvm.Cond.fieldLink "TermLog$Cluster" (70 : Nat) "TermLog$Cluster" "broken" "I") ∈ lw_all := lw_g (lw_at lw_m1 220 rfl) rfl
theorem q379 : (Jvm.Cond.fieldLink "TermLog$Cluster" (73 : Nat) "TermLog$Cluster" "lost" "I") ∈ lw_all := lw_g (lw_at lw_m1 222 rfl) rfl
theorem q381 : (Jvm.Cond.fieldLink "TermLog$Cluster" (58 : Nat) "TermLog$Cluster" "greatest" "I") ∈ lw_all := lw_g (lw_at lw_m1 224 rfl) rfl
theorem q384 : (Jvm.Cond.fieldLink "TermLog$Cluster" (254 : Nat) "TermLog$Cluster" "heldNow" "I") ∈ lw_all := lw_g (lw_at lw_m1 227 rfl) rfl
theorem q385 : (Jvm.Cond.fieldLink "TermLog$Cluster" (61 : Nat) "TermLog$Cluster" "asked" "I") ∈ lw_all := lw_g (lw_at lw_m1 228 rfl) rfl
theorem q387 : (Jvm.Cond.fieldLink "TermLog$Cluster" (42 : Nat) "TermLog$Cluster" "handed" "[I") ∈ lw_all := lw_g (lw_at lw_m1 230 rfl) rfl
theorem q388 : (Jvm.Cond.fieldLink "TermLog$Cluster" (3 : Nat) "TermLog$Cluster" "this$0" "LTermLog;") ∈ lw_all := lw_g (lw_at lw_m1 231 rfl) rfl
theorem q389 : (Jvm.Cond.laysFinal "TermLog$Cluster" "TermLog$Cluster" "nodes" "[LTermLog$Node;") ∈ lw_all := lw_g (lw_at lw_m1 232 rfl) rfl
theorem q390 : (Jvm.Cond.soleField "TermLog$Cluster" "nodes") ∈ lw_all := lw_g (lw_at lw_m1 233 rfl) rfl
theorem q391 : (Jvm.Cond.laysFinal "TermLog$Cluster" "TermLog$Cluster" "sent" "[[I") ∈ lw_all := lw_g (lw_at lw_m1 234 rfl) rfl
theorem q392 : (Jvm.Cond.soleField "TermLog$Cluster" "sent") ∈ lw_all := lw_g (lw_at lw_m1 235 rfl) rfl
theorem q393 : (Jvm.Cond.laysFinal "TermLog$Cluster" "TermLog$Cluster" "heldEntries" "[[I") ∈ lw_all := lw_g (lw_at lw_m1 236 rfl) rfl
theorem q394 : (Jvm.Cond.soleField "TermLog$Cluster" "heldEntries") ∈ lw_all := lw_g (lw_at lw_m1 237 rfl) rfl
theorem q395 : (Jvm.Cond.laysFinal "TermLog$Cluster" "TermLog$Cluster" "reads" "[[I") ∈ lw_all := lw_g (lw_at lw_m1 238 rfl) rfl
theorem q396 : (Jvm.Cond.soleField "TermLog$Cluster" "reads") ∈ lw_all := lw_g (lw_at lw_m1 239 rfl) rfl
theorem q397 : (Jvm.Cond.laysFinal "TermLog$Cluster" "TermLog$Cluster" "cuts" "[I") ∈ lw_all := lw_g (lw_at lw_m2 0 rfl) rfl
theorem q398 : (Jvm.Cond.soleField "TermLog$Cluster" "cuts") ∈ lw_all := lw_g (lw_at lw_m2 1 rfl) rfl
theorem q399 : (Jvm.Cond.laysFinal "TermLog$Cluster" "TermLog$Cluster" "ledBy" "[I") ∈ lw_all := lw_g (lw_at lw_m2 2 rfl) rfl
theorem q400 : (Jvm.Cond.soleField "TermLog$Cluster" "ledBy") ∈ lw_all := lw_g (lw_at lw_m2 3 rfl) rfl
theorem q401 : (Jvm.Cond.laysFinal "TermLog$Cluster" "TermLog$Cluster" "carried" "[I") ∈ lw_all := lw_g (lw_at lw_m2 4 rfl) rfl
theorem q402 : (Jvm.Cond.soleField "TermLog$Cluster" "carried") ∈ lw_all := lw_g (lw_at lw_m2 5 rfl) rfl
theorem q403 : (Jvm.Cond.lays "TermLog$Cluster" "TermLog$Cluster" "many" "I") ∈ lw_all := lw_g (lw_at lw_m2 6 rfl) rfl
theorem q404 : (Jvm.Cond.soleField "TermLog$Cluster" "many") ∈ lw_all := lw_g (lw_at lw_m2 7 rfl) rfl
theorem q405 : (Jvm.Cond.lays "TermLog$Cluster" "TermLog$Cluster" "tick" "I") ∈ lw_all := lw_g (lw_at lw_m2 8 rfl) rfl
theorem q406 : (Jvm.Cond.soleField "TermLog$Cluster" "tick") ∈ lw_all := lw_g (lw_at lw_m2 9 rfl) rfl
theorem q407 : (Jvm.Cond.lays "TermLog$Cluster" "TermLog$Cluster" "x" "I") ∈ lw_all := lw_g (lw_at lw_m2 10 rfl) rfl
theorem q408 : (Jvm.Cond.soleField "TermLog$Cluster" "x") ∈ lw_all := lw_g (lw_at lw_m2 11 rfl) rfl
theorem q409 : (Jvm.Cond.lays "TermLog$Cluster" "TermLog$Cluster" "broken" "I") ∈ lw_all := lw_g (lw_at lw_m2 12 rfl) rfl
theorem q410 : (Jvm.Cond.soleField "TermLog$Cluster" "broken") ∈ lw_all := lw_g (lw_at lw_m2 13 rfl) rfl
theorem q411 : (Jvm.Cond.lays "TermLog$Cluster" "TermLog$Cluster" "lost" "I") ∈ lw_all := lw_g (lw_at lw_m2 14 rfl) rfl
theorem q412 : (Jvm.Cond.soleField "TermLog$Cluster" "lost") ∈ lw_all := lw_g (lw_at lw_m2 15 rfl) rfl
theorem q413 : (Jvm.Cond.lays "TermLog$Cluster" "TermLog$Cluster" "greatest" "I") ∈ lw_all := lw_g (lw_at lw_m2 16 rfl) rfl
theorem q414 : (Jvm.Cond.soleField "TermLog$Cluster" "greatest") ∈ lw_all := lw_g (lw_at lw_m2 17 rfl) rfl
theorem q415 : (Jvm.Cond.lays "TermLog$Cluster" "TermLog$Cluster" "heldNow" "I") ∈ lw_all := lw_g (lw_at lw_m2 18 rfl) rfl
theorem q416 : (Jvm.Cond.soleField "TermLog$Cluster" "heldNow") ∈ lw_all := lw_g (lw_at lw_m2 19 rfl) rfl
theorem q417 : (Jvm.Cond.lays "TermLog$Cluster" "TermLog$Cluster" "asked" "I") ∈ lw_all := lw_g (lw_at lw_m2 20 rfl) rfl
theorem q418 : (Jvm.Cond.soleField "TermLog$Cluster" "asked") ∈ lw_all := lw_g (lw_at lw_m2 21 rfl) rfl
theorem q419 : (Jvm.Cond.laysFinal "TermLog$Cluster" "TermLog$Cluster" "handed" "[I") ∈ lw_all := lw_g (lw_at lw_m2 22 rfl) rfl
theorem q420 : (Jvm.Cond.soleField "TermLog$Cluster" "handed") ∈ lw_all := lw_g (lw_at lw_m2 23 rfl) rfl
theorem q421 : (Jvm.Cond.laysFinal "TermLog$Cluster" "TermLog$Cluster" "this$0" "LTermLog;") ∈ lw_all := lw_g (lw_at lw_m2 24 rfl) rfl
theorem q422 : (Jvm.Cond.soleField "TermLog$Cluster" "this$0") ∈ lw_all := lw_g (lw_at lw_m2 25 rfl) rfl
theorem q423 : (Jvm.Cond.superclass "TermLog$Cluster" "java/lang/Object") ∈ lw_all := lw_g (lw_at lw_m2 26 rfl) rfl
theorem q454 : (Jvm.Cond.instanceMethod ({ cls := "TermLog$Cluster", name := "founded", desc := "(I)V" } : Jvm.MethodName)) ∈ lw_all := lw_g (lw_at lw_m2 57 rfl) rfl
theorem q455 : (Jvm.Cond.selects "TermLog$Cluster" ({ cls := "TermLog$Cluster", name := "founded", desc := "(I)V" } : Jvm.MethodName) ({ cls := "TermLog$Cluster", name := "founded", desc := "(I)V" } : Jvm.MethodName)) ∈ lw_all := lw_g (lw_at lw_m2 58 rfl) rfl
theorem q456 : (Jvm.Cond.code ({ cls := "TermLog$Cluster", name := "founded", desc := "(I)V" } : Jvm.MethodName) prog_3_method_4_code (3 : Nat) (Option.none : Option Jvm.ClassFile.FieldType)) ∈ lw_all := lw_g (lw_at lw_m2 59 rfl) rfl
theorem q457 : (Jvm.Cond.methodLink "TermLog$Cluster" (76 : Nat) ({ cls := "TermLog$Node", name := "begins", desc := "(I)V" } : Jvm.MethodName)) ∈ lw_all := lw_g (lw_at lw_m2 60 rfl) rfl
theorem q465 : (Jvm.Cond.methodLink "TermLog$Cluster" (80 : Nat) ({ cls := "TermLog$Cluster", name := "setsTimer", desc := "(I)V" } : Jvm.MethodName)) ∈ lw_all := lw_g (lw_at lw_m2 68 rfl) rfl
theorem q466 : (Jvm.Cond.instanceMethod ({ cls := "TermLog$Cluster", name := "setsTimer", desc := "(I)V" } : Jvm.MethodName)) ∈ lw_all := lw_g (lw_at lw_m2 69 rfl) rfl
theorem q467 : (Jvm.Cond.selects "TermLog$Cluster" ({ cls := "TermLog$Cluster", name := "setsTimer", desc := "(I)V" } : Jvm.MethodName) ({ cls := "TermLog$Cluster", name := "setsTimer", desc := "(I)V" } : Jvm.MethodName)) ∈ lw_all := lw_g (lw_at lw_m2 70 rfl) rfl
theorem q468 : (Jvm.Cond.code ({ cls := "TermLog$Cluster", name := "setsTimer", desc := "(I)V" } : Jvm.MethodName) prog_3_method_6_code (4 : Nat) (Option.none : Option Jvm.ClassFile.FieldType)) ∈ lw_all := lw_g (lw_at lw_m2 71 rfl) rfl
theorem q469 : (Jvm.Cond.methodLink "TermLog$Cluster" (84 : Nat) ({ cls := "TermLog$Cluster", name := "draw", desc := "()I" } : Jvm.MethodName)) ∈ lw_all := lw_g (lw_at lw_m2 72 rfl) rfl
theorem q470 : (Jvm.Cond.privateMethod ({ cls := "TermLog$Cluster", name := "draw", desc := "()I" } : Jvm.MethodName)) ∈ lw_tbl := lw_at lw_m2 73 rfl
theorem q471 : (Jvm.Cond.instanceMethod ({ cls := "TermLog$Cluster", name := "draw", desc := "()I" } : Jvm.MethodName)) ∈ lw_all := lw_g (lw_at lw_m2 74 rfl) rfl
theorem q472 : (Jvm.Cond.code ({ cls := "TermLog$Cluster", name := "draw", desc := "()I" } : Jvm.MethodName) prog_3_method_5_code (1 : Nat) (Option.some Jvm.ClassFile.FieldType.int)) ∈ lw_all := lw_g (lw_at lw_m2 75 rfl) rfl
theorem q473 : (Jvm.Cond.constant "TermLog$Cluster" (83 : Nat) (65536 : Int32)) ∈ lw_all := lw_g (lw_at lw_m2 76 rfl) rfl
theorem q474 : (Jvm.Cond.methodLink "TermLog$Cluster" (95 : Nat) ({ cls := "TermLog$Moment", name := "of", desc := "(IIII)LTermLog$Moment;" } : Jvm.MethodName)) ∈ lw_all := lw_g (lw_at lw_m2 77 rfl) rfl
theorem q478 : (Jvm.Cond.methodLink "TermLog$Cluster" (101 : Nat) ({ cls := "TermLog$Moment", name := "on", desc := "(III)LTermLog$Moment;" } : Jvm.MethodName)) ∈ lw_all := lw_g (lw_at lw_m2 81 rfl) rfl
theorem q482 : (Jvm.Cond.methodLink "TermLog$Cluster" (109 : Nat) ({ cls := "TermLog$Text", name := "tells", desc := "(IILTermLog$Asked;)I" } : Jvm.MethodName)) ∈ lw_all := lw_g (lw_at lw_m2 85 rfl) rfl
theorem q530 : (Jvm.Cond.methodLink "TermLog$Cluster" (115 : Nat) ({ cls := "java/lang/Math", name := "min", desc := "(II)I" } : Jvm.MethodName)) ∈ lw_all := lw_g (lw_at lw_m2 133 rfl) rfl
theorem q533 : (Jvm.Cond.methodLink "TermLog$Cluster" (121 : Nat) ({ cls := "java/lang/Math", name := "max", desc := "(II)I" } : Jvm.MethodName)) ∈ lw_all := lw_g (lw_at lw_m2 136 rfl) rfl
theorem q536 : (Jvm.Cond.fieldLinkNest "TermLog$Cluster" (88 : Nat) "TermLog" "moment" "LTermLog$Moment;" "TermLog") ∈ lw_tbl := lw_at lw_m2 139 rfl
theorem q544 : (Jvm.Cond.fieldLinkNest "TermLog$Cluster" (105 : Nat) "TermLog" "law" "LTermLog$Text;" "TermLog") ∈ lw_tbl := lw_at lw_m2 147 rfl
theorem q586 : (Jvm.Cond.instanceMethod ({ cls := "TermLog$Cluster", name := "losesReads", desc := "(I)V" } : Jvm.MethodName)) ∈ lw_all := lw_g (lw_at lw_m2 189 rfl) rfl
theorem q587 : (Jvm.Cond.selects "TermLog$Cluster" ({ cls := "TermLog$Cluster", name := "losesReads", desc := "(I)V" } : Jvm.MethodName) ({ cls := "TermLog$Cluster", name := "losesReads", desc := "(I)V" } : Jvm.MethodName)) ∈ lw_all := lw_g (lw_at lw_m2 190 rfl) rfl
theorem q588 : (Jvm.Cond.code ({ cls := "TermLog$Cluster", name := "losesReads", desc := "(I)V" } : Jvm.MethodName) prog_3_method_14_code (3 : Nat) (Option.none : Option Jvm.ClassFile.FieldType)) ∈ lw_all := lw_g (lw_at lw_m2 191 rfl) rfl
theorem q636 : (Jvm.Cond.instanceMethod ({ cls := "TermLog$Cluster", name := "isLeader", desc := "(I)Z" } : Jvm.MethodName)) ∈ lw_all := lw_g (lw_at lw_m2 239 rfl) rfl
theorem q637 : (Jvm.Cond.selects "TermLog$Cluster" ({ cls := "TermLog$Cluster", name := "isLeader", desc := "(I)Z" } : Jvm.MethodName) ({ cls := "TermLog$Cluster", name := "isLeader", desc := "(I)Z" } : Jvm.MethodName)) ∈ lw_all := lw_g (lw_at lw_m3 0 rfl) rfl
theorem q638 : (Jvm.Cond.code ({ cls := "TermLog$Cluster", name := "isLeader", desc := "(I)Z" } : Jvm.MethodName) prog_3_method_38_code (2 : Nat) (Option.some Jvm.ClassFile.FieldType.boolean)) ∈ lw_all := lw_g (lw_at lw_m3 1 rfl) rfl
theorem q640 : (Jvm.Cond.instanceMethod ({ cls := "TermLog$Cluster", name := "isFull", desc := "(I)Z" } : Jvm.MethodName)) ∈ lw_all := lw_g (lw_at lw_m3 3 rfl) rfl
theorem q641 : (Jvm.Cond.selects "TermLog$Cluster" ({ cls := "TermLog$Cluster", name := "isFull", desc := "(I)Z" } : Jvm.MethodName) ({ cls := "TermLog$Cluster", name := "isFull", desc := "(I)Z" } : Jvm.MethodName)) ∈ lw_all := lw_g (lw_at lw_m3 4 rfl) rfl
theorem q642 : (Jvm.Cond.code ({ cls := "TermLog$Cluster", name := "isFull", desc := "(I)Z" } : Jvm.MethodName) prog_3_method_40_code (2 : Nat) (Option.some Jvm.ClassFile.FieldType.boolean)) ∈ lw_all := lw_g (lw_at lw_m3 5 rfl) rfl
theorem q643 : (Jvm.Cond.methodLink "TermLog$Cluster" (173 : Nat) ({ cls := "TermLog$Node", name := "last", desc := "()I" } : Jvm.MethodName)) ∈ lw_all := lw_g (lw_at lw_m3 6 rfl) rfl
theorem q648 : (Jvm.Cond.instanceMethod ({ cls := "TermLog$Cluster", name := "laysFor", desc := "(IIII)I" } : Jvm.MethodName)) ∈ lw_all := lw_g (lw_at lw_m3 11 rfl) rfl
theorem q649 : (Jvm.Cond.selects "TermLog$Cluster" ({ cls := "TermLog$Cluster", name := "laysFor", desc := "(IIII)I" } : Jvm.MethodName) ({ cls := "TermLog$Cluster", name := "laysFor", desc := "(IIII)I" } : Jvm.MethodName)) ∈ lw_all := lw_g (lw_at lw_m3 12 rfl) rfl
theorem q650 : (Jvm.Cond.code ({ cls := "TermLog$Cluster", name := "laysFor", desc := "(IIII)I" } : Jvm.MethodName) prog_3_method_39_code (7 : Nat) (Option.some Jvm.ClassFile.FieldType.int)) ∈ lw_all := lw_g (lw_at lw_m3 13 rfl) rfl
theorem q651 : (Jvm.Cond.methodLink "TermLog$Cluster" (230 : Nat) ({ cls := "TermLog$Node", name := "lays", desc := "(IIII)Z" } : Jvm.MethodName)) ∈ lw_all := lw_g (lw_at lw_m3 14 rfl) rfl
theorem q657 : (Jvm.Cond.methodLink "TermLog$Cluster" (234 : Nat) ({ cls := "TermLog$Cluster", name := "sendsToAll", desc := "(I)V" } : Jvm.MethodName)) ∈ lw_all := lw_g (lw_at lw_m3 20 rfl) rfl
theorem q658 : (Jvm.Cond.instanceMethod ({ cls := "TermLog$Cluster", name := "sendsToAll", desc := "(I)V" } : Jvm.MethodName)) ∈ lw_all := lw_g (lw_at lw_m3 21 rfl) rfl
theorem q659 : (Jvm.Cond.selects "TermLog$Cluster" ({ cls := "TermLog$Cluster", name := "sendsToAll", desc := "(I)V" } : Jvm.MethodName) ({ cls := "TermLog$Cluster", name := "sendsToAll", desc := "(I)V" } : Jvm.MethodName)) ∈ lw_all := lw_g (lw_at lw_m3 22 rfl) rfl
theorem q660 : (Jvm.Cond.code ({ cls := "TermLog$Cluster", name := "sendsToAll", desc := "(I)V" } : Jvm.MethodName) prog_3_method_12_code (4 : Nat) (Option.none : Option Jvm.ClassFile.FieldType)) ∈ lw_all := lw_g (lw_at lw_m3 23 rfl) rfl
theorem q661 : (Jvm.Cond.methodLink "TermLog$Cluster" (188 : Nat) ({ cls := "TermLog$Node", name := "members", desc := "()I" } : Jvm.MethodName)) ∈ lw_all := lw_g (lw_at lw_m3 24 rfl) rfl
theorem q673 : (Jvm.Cond.methodLinkNest "TermLog$Cluster" (191 : Nat) ({ cls := "TermLog", name := "has", desc := "(II)Z" } : Jvm.MethodName) "TermLog") ∈ lw_tbl := lw_at lw_m3 36 rfl
theorem q676 : (Jvm.Cond.methodLink "TermLog$Cluster" (195 : Nat) ({ cls := "TermLog$Cluster", name := "sendsOn", desc := "(II)V" } : Jvm.MethodName)) ∈ lw_all := lw_g (lw_at lw_m3 39 rfl) rfl
theorem q677 : (Jvm.Cond.privateMethod ({ cls := "TermLog$Cluster", name := "sendsOn", desc := "(II)V" } : Jvm.MethodName)) ∈ lw_tbl := lw_at lw_m3 40 rfl
theorem q678 : (Jvm.Cond.instanceMethod ({ cls := "TermLog$Cluster", name := "sendsOn", desc := "(II)V" } : Jvm.MethodName)) ∈ lw_all := lw_g (lw_at lw_m3 41 rfl) rfl
theorem q679 : (Jvm.Cond.code ({ cls := "TermLog$Cluster", name := "sendsOn", desc := "(II)V" } : Jvm.MethodName) prog_3_method_11_code (7 : Nat) (Option.none : Option Jvm.ClassFile.FieldType)) ∈ lw_all := lw_g (lw_at lw_m3 42 rfl) rfl
theorem q680 : (Jvm.Cond.methodLink "TermLog$Cluster" (138 : Nat) ({ cls := "TermLog$Cluster", name := "writes", desc := "(IIIIIII)[I" } : Jvm.MethodName)) ∈ lw_all := lw_g (lw_at lw_m3 43 rfl) rfl
theorem q681 : (Jvm.Cond.privateMethod ({ cls := "TermLog$Cluster", name := "writes", desc := "(IIIIIII)[I" } : Jvm.MethodName)) ∈ lw_tbl := lw_at lw_m3 44 rfl
theorem q682 : (Jvm.Cond.instanceMethod ({ cls := "TermLog$Cluster", name := "writes", desc := "(IIIIIII)[I" } : Jvm.MethodName)) ∈ lw_all := lw_g (lw_at lw_m3 45 rfl) rfl
theorem q683 : (Jvm.Cond.code ({ cls := "TermLog$Cluster", name := "writes", desc := "(IIIIIII)[I" } : Jvm.MethodName) prog_3_method_8_code (8 : Nat) (Option.some (Jvm.ClassFile.FieldType.array Jvm.ClassFile.FieldType.int))) ∈ lw_all := lw_g (lw_at lw_m3 46 rfl) rfl
theorem q684 : (Jvm.Cond.methodLink "TermLog$Cluster" (166 : Nat) ({ cls := "TermLog$Node", name := "termAt", desc := "(I)I" } : Jvm.MethodName)) ∈ lw_all := lw_g (lw_at lw_m3 47 rfl) rfl
theorem q685 : (Jvm.Cond.methodLink "TermLog$Cluster" (142 : Nat) ({ cls := "TermLog$Cluster", name := "sends", desc := "()V" } : Jvm.MethodName)) ∈ lw_all := lw_g (lw_at lw_m3 48 rfl) rfl
theorem q686 : (Jvm.Cond.privateMethod ({ cls := "TermLog$Cluster", name := "sends", desc := "()V" } : Jvm.MethodName)) ∈ lw_tbl := lw_at lw_m3 49 rfl
theorem q687 : (Jvm.Cond.instanceMethod ({ cls := "TermLog$Cluster", name := "sends", desc := "()V" } : Jvm.MethodName)) ∈ lw_all := lw_g (lw_at lw_m3 50 rfl) rfl
theorem q688 : (Jvm.Cond.code ({ cls := "TermLog$Cluster", name := "sends", desc := "()V" } : Jvm.MethodName) prog_3_method_9_code (4 : Nat) (Option.none : Option Jvm.ClassFile.FieldType)) ∈ lw_all := lw_g (lw_at lw_m3 51 rfl) rfl
theorem q689 : (Jvm.Cond.methodLink "TermLog$Cluster" (128 : Nat) ({ cls := "TermLog$Text", name := "says", desc := "(ILTermLog$Asked;)Z" } : Jvm.MethodName)) ∈ lw_all := lw_g (lw_at lw_m3 52 rfl) rfl
theorem q693 : (Jvm.Cond.methodLinkNest "TermLog$Cluster" (132 : Nat) ({ cls := "TermLog", name := "held", desc := "(II)I" } : Jvm.MethodName) "TermLog") ∈ lw_tbl := lw_at lw_m3 56 rfl
theorem q698 : (Jvm.Cond.methodLink "TermLog$Cluster" (135 : Nat) ({ cls := "TermLog$Cluster", name := "isLost", desc := "()V" } : Jvm.MethodName)) ∈ lw_all := lw_g (lw_at lw_m3 61 rfl) rfl
theorem q699 : (Jvm.Cond.privateMethod ({ cls := "TermLog$Cluster", name := "isLost", desc := "()V" } : Jvm.MethodName)) ∈ lw_tbl := lw_at lw_m3 62 rfl
theorem q700 : (Jvm.Cond.instanceMethod ({ cls := "TermLog$Cluster", name := "isLost", desc := "()V" } : Jvm.MethodName)) ∈ lw_all := lw_g (lw_at lw_m3 63 rfl) rfl
theorem q701 : (Jvm.Cond.code ({ cls := "TermLog$Cluster", name := "isLost", desc := "()V" } : Jvm.MethodName) prog_3_method_7_code (1 : Nat) (Option.none : Option Jvm.ClassFile.FieldType)) ∈ lw_all := lw_g (lw_at lw_m3 64 rfl) rfl
theorem q702 : (Jvm.Cond.constant "TermLog$Cluster" (127 : Nat) (99999 : Int32)) ∈ lw_all := lw_g (lw_at lw_m3 65 rfl) rfl
theorem q703 : (Jvm.Cond.methodLink "TermLog$Cluster" (54 : Nat) ({ cls := "TermLog$Cluster", name := "copies", desc := "([I[I)V" } : Jvm.MethodName)) ∈ lw_all := lw_g (lw_at lw_m3 66 rfl) rfl
theorem q704 : (Jvm.Cond.privateMethod ({ cls := "TermLog$Cluster", name := "copies", desc := "([I[I)V" } : Jvm.MethodName)) ∈ lw_tbl := lw_at lw_m3 67 rfl
theorem q705 : (Jvm.Cond.instanceMethod ({ cls := "TermLog$Cluster", name := "copies", desc := "([I[I)V" } : Jvm.MethodName)) ∈ lw_all := lw_g (lw_at lw_m3 68 rfl) rfl
theorem q706 : (Jvm.Cond.code ({ cls := "TermLog$Cluster", name := "copies", desc := "([I[I)V" } : Jvm.MethodName) prog_3_method_3_code (4 : Nat) (Option.none : Option Jvm.ClassFile.FieldType)) ∈ lw_all := lw_g (lw_at lw_m3 69 rfl) rfl
theorem q707 : (Jvm.Cond.methodLink "TermLog$Cluster" (237 : Nat) ({ cls := "TermLog$Cluster", name := "holds", desc := "(I)V" } : Jvm.MethodName)) ∈ lw_all := lw_g (lw_at lw_m3 70 rfl) rfl
theorem q708 : (Jvm.Cond.instanceMethod ({ cls := "TermLog$Cluster", name := "holds", desc := "(I)V" } : Jvm.MethodName)) ∈ lw_all := lw_g (lw_at lw_m3 71 rfl) rfl
theorem q709 : (Jvm.Cond.selects "TermLog$Cluster" ({ cls := "TermLog$Cluster", name := "holds", desc := "(I)V" } : Jvm.MethodName) ({ cls := "TermLog$Cluster", name := "holds", desc := "(I)V" } : Jvm.MethodName)) ∈ lw_all := lw_g (lw_at lw_m3 72 rfl) rfl
theorem q710 : (Jvm.Cond.code ({ cls := "TermLog$Cluster", name := "holds", desc := "(I)V" } : Jvm.MethodName) prog_3_method_29_code (4 : Nat) (Option.none : Option Jvm.ClassFile.FieldType)) ∈ lw_all := lw_g (lw_at lw_m3 73 rfl) rfl
theorem q711 : (Jvm.Cond.methodLink "TermLog$Cluster" (287 : Nat) ({ cls := "TermLog$Cluster", name := "withMatch", desc := "(II)I" } : Jvm.MethodName)) ∈ lw_all := lw_g (lw_at lw_m3 74 rfl) rfl
theorem q712 : (Jvm.Cond.privateMethod ({ cls := "TermLog$Cluster", name := "withMatch", desc := "(II)I" } : Jvm.MethodName)) ∈ lw_tbl := lw_at lw_m3 75 rfl
theorem q713 : (Jvm.Cond.instanceMethod ({ cls := "TermLog$Cluster", name := "withMatch", desc := "(II)I" } : Jvm.MethodName)) ∈ lw_all := lw_g (lw_at lw_m3 76 rfl) rfl
theorem q714 : (Jvm.Cond.code ({ cls := "TermLog$Cluster", name := "withMatch", desc := "(II)I" } : Jvm.MethodName) prog_3_method_28_code (5 : Nat) (Option.some Jvm.ClassFile.FieldType.int)) ∈ lw_all := lw_g (lw_at lw_m3 77 rfl) rfl
theorem q715 : (Jvm.Cond.methodLink "TermLog$Cluster" (214 : Nat) ({ cls := "TermLog$Node", name := "isMajority", desc := "(I)Z" } : Jvm.MethodName)) ∈ lw_all := lw_g (lw_at lw_m3 78 rfl) rfl
theorem q728 : (Jvm.Cond.methodLink "TermLog$Cluster" (271 : Nat) ({ cls := "TermLog$Cluster", name := "commits", desc := "(II)V" } : Jvm.MethodName)) ∈ lw_all := lw_g (lw_at lw_m3 91 rfl) rfl
theorem q729 : (Jvm.Cond.privateMethod ({ cls := "TermLog$Cluster", name := "commits", desc := "(II)V" } : Jvm.MethodName)) ∈ lw_tbl := lw_at lw_m3 92 rfl
theorem q730 : (Jvm.Cond.instanceMethod ({ cls := "TermLog$Cluster", name := "commits", desc := "(II)V" } : Jvm.MethodName)) ∈ lw_all := lw_g (lw_at lw_m3 93 rfl) rfl
theorem q731 : (Jvm.Cond.code ({ cls := "TermLog$Cluster", name := "commits", desc := "(II)V" } : Jvm.MethodName) prog_3_method_20_code (4 : Nat) (Option.none : Option Jvm.ClassFile.FieldType)) ∈ lw_all := lw_g (lw_at lw_m3 94 rfl) rfl
theorem q732 : (Jvm.Cond.methodLink "TermLog$Cluster" (247 : Nat) ({ cls := "TermLog$Cluster", name := "isSeenHeld", desc := "(LTermLog$Node;I)V" } : Jvm.MethodName)) ∈ lw_all := lw_g (lw_at lw_m3 95 rfl) rfl
theorem q733 : (Jvm.Cond.privateMethod ({ cls := "TermLog$Cluster", name := "isSeenHeld", desc := "(LTermLog$Node;I)V" } : Jvm.MethodName)) ∈ lw_tbl := lw_at lw_m3 96 rfl
theorem q734 : (Jvm.Cond.instanceMethod ({ cls := "TermLog$Cluster", name := "isSeenHeld", desc := "(LTermLog$Node;I)V" } : Jvm.MethodName)) ∈ lw_all := lw_g (lw_at lw_m3 97 rfl) rfl
theorem q735 : (Jvm.Cond.code ({ cls := "TermLog$Cluster", name := "isSeenHeld", desc := "(LTermLog$Node;I)V" } : Jvm.MethodName) prog_3_method_21_code (5 : Nat) (Option.none : Option Jvm.ClassFile.FieldType)) ∈ lw_all := lw_g (lw_at lw_m3 98 rfl) rfl
theorem q736 : (Jvm.Cond.methodLink "TermLog$Cluster" (290 : Nat) ({ cls := "TermLog$Node", name := "isConfigHeld", desc := "()Z" } : Jvm.MethodName)) ∈ lw_all := lw_g (lw_at lw_m3 99 rfl) rfl
theorem q740 : (Jvm.Cond.methodLink "TermLog$Cluster" (294 : Nat) ({ cls := "TermLog$Node", name := "news", desc := "()I" } : Jvm.MethodName)) ∈ lw_all := lw_g (lw_at lw_m3 103 rfl) rfl
theorem q741 : (Jvm.Cond.methodLink "TermLog$Cluster" (261 : Nat) ({ cls := "TermLog$Cluster", name := "follows", desc := "(II)V" } : Jvm.MethodName)) ∈ lw_all := lw_g (lw_at lw_m3 104 rfl) rfl
theorem q742 : (Jvm.Cond.privateMethod ({ cls := "TermLog$Cluster", name := "follows", desc := "(II)V" } : Jvm.MethodName)) ∈ lw_tbl := lw_at lw_m3 105 rfl
theorem q743 : (Jvm.Cond.instanceMethod ({ cls := "TermLog$Cluster", name := "follows", desc := "(II)V" } : Jvm.MethodName)) ∈ lw_all := lw_g (lw_at lw_m3 106 rfl) rfl
theorem q744 : (Jvm.Cond.code ({ cls := "TermLog$Cluster", name := "follows", desc := "(II)V" } : Jvm.MethodName) prog_3_method_15_code (4 : Nat) (Option.none : Option Jvm.ClassFile.FieldType)) ∈ lw_all := lw_g (lw_at lw_m3 107 rfl) rfl
theorem q745 : (Jvm.Cond.methodLink "TermLog$Cluster" (202 : Nat) ({ cls := "TermLog$Cluster", name := "losesReads", desc := "(I)V" } : Jvm.MethodName)) ∈ lw_all := lw_g (lw_at lw_m3 108 rfl) rfl
theorem q760 : (Jvm.Cond.instanceMethod ({ cls := "TermLog$Cluster", name := "answersReads", desc := "(I)V" } : Jvm.MethodName)) ∈ lw_all := lw_g (lw_at lw_m3 123 rfl) rfl
theorem q761 : (Jvm.Cond.selects "TermLog$Cluster" ({ cls := "TermLog$Cluster", name := "answersReads", desc := "(I)V" } : Jvm.MethodName) ({ cls := "TermLog$Cluster", name := "answersReads", desc := "(I)V" } : Jvm.MethodName)) ∈ lw_all := lw_g (lw_at lw_m3 124 rfl) rfl
theorem q762 : (Jvm.Cond.code ({ cls := "TermLog$Cluster", name := "answersReads", desc := "(I)V" } : Jvm.MethodName) prog_3_method_31_code (5 : Nat) (Option.none : Option Jvm.ClassFile.FieldType)) ∈ lw_all := lw_g (lw_at lw_m3 125 rfl) rfl
theorem q763 : (Jvm.Cond.methodLink "TermLog$Cluster" (297 : Nat) ({ cls := "TermLog$Cluster", name := "withHeard", desc := "(II)I" } : Jvm.MethodName)) ∈ lw_all := lw_g (lw_at lw_m3 126 rfl) rfl
theorem q764 : (Jvm.Cond.privateMethod ({ cls := "TermLog$Cluster", name := "withHeard", desc := "(II)I" } : Jvm.MethodName)) ∈ lw_tbl := lw_at lw_m3 127 rfl
theorem q765 : (Jvm.Cond.instanceMethod ({ cls := "TermLog$Cluster", name := "withHeard", desc := "(II)I" } : Jvm.MethodName)) ∈ lw_all := lw_g (lw_at lw_m3 128 rfl) rfl
theorem q766 : (Jvm.Cond.code ({ cls := "TermLog$Cluster", name := "withHeard", desc := "(II)I" } : Jvm.MethodName) prog_3_method_30_code (5 : Nat) (Option.some Jvm.ClassFile.FieldType.int)) ∈ lw_all := lw_g (lw_at lw_m3 129 rfl) rfl
theorem q1132 : (Jvm.Cond.instanceMethod ({ cls := "TermLog$Cluster", name := "goes", desc := "(I)LTermLog$Cluster;" } : Jvm.MethodName)) ∈ lw_all := lw_g (lw_at lw_m5 15 rfl) rfl
theorem q1133 : (Jvm.Cond.selects "TermLog$Cluster" ({ cls := "TermLog$Cluster", name := "goes", desc := "(I)LTermLog$Cluster;" } : Jvm.MethodName) ({ cls := "TermLog$Cluster", name := "goes", desc := "(I)LTermLog$Cluster;" } : Jvm.MethodName)) ∈ lw_all := lw_g (lw_at lw_m5 16 rfl) rfl
theorem q1134 : (Jvm.Cond.code ({ cls := "TermLog$Cluster", name := "goes", desc := "(I)LTermLog$Cluster;" } : Jvm.MethodName) prog_3_method_36_code (3 : Nat) (Option.some (Jvm.ClassFile.FieldType.object "TermLog$Cluster"))) ∈ lw_all := lw_g (lw_at lw_m5 17 rfl) rfl
theorem q1135 : (Jvm.Cond.methodLink "TermLog$Cluster" (333 : Nat) ({ cls := "TermLog$Cluster", name := "tickGoes", desc := "()V" } : Jvm.MethodName)) ∈ lw_all := lw_g (lw_at lw_m5 18 rfl) rfl
theorem q1136 : (Jvm.Cond.instanceMethod ({ cls := "TermLog$Cluster", name := "tickGoes", desc := "()V" } : Jvm.MethodName)) ∈ lw_all := lw_g (lw_at lw_m5 19 rfl) rfl
theorem q1137 : (Jvm.Cond.selects "TermLog$Cluster" ({ cls := "TermLog$Cluster", name := "tickGoes", desc := "()V" } : Jvm.MethodName) ({ cls := "TermLog$Cluster", name := "tickGoes", desc := "()V" } : Jvm.MethodName)) ∈ lw_all := lw_g (lw_at lw_m5 20 rfl) rfl
theorem q1138 : (Jvm.Cond.code ({ cls := "TermLog$Cluster", name := "tickGoes", desc := "()V" } : Jvm.MethodName) prog_3_method_35_code (2 : Nat) (Option.none : Option Jvm.ClassFile.FieldType)) ∈ lw_all := lw_g (lw_at lw_m5 21 rfl) rfl
theorem q1139 : (Jvm.Cond.methodLink "TermLog$Cluster" (324 : Nat) ({ cls := "TermLog$Cluster", name := "takesDue", desc := "()Z" } : Jvm.MethodName)) ∈ lw_all := lw_g (lw_at lw_m5 22 rfl) rfl
theorem q1140 : (Jvm.Cond.privateMethod ({ cls := "TermLog$Cluster", name := "takesDue", desc := "()Z" } : Jvm.MethodName)) ∈ lw_tbl := lw_at lw_m5 23 rfl
theorem q1141 : (Jvm.Cond.instanceMethod ({ cls := "TermLog$Cluster", name := "takesDue", desc := "()Z" } : Jvm.MethodName)) ∈ lw_all := lw_g (lw_at lw_m5 24 rfl) rfl
theorem q1142 : (Jvm.Cond.code ({ cls := "TermLog$Cluster", name := "takesDue", desc := "()Z" } : Jvm.MethodName) prog_3_method_13_code (3 : Nat) (Option.some Jvm.ClassFile.FieldType.boolean)) ∈ lw_all := lw_g (lw_at lw_m5 25 rfl) rfl
theorem q1143 : (Jvm.Cond.methodLink "TermLog$Cluster" (327 : Nat) ({ cls := "TermLog$Cluster", name := "isHanded", desc := "()V" } : Jvm.MethodName)) ∈ lw_all := lw_g (lw_at lw_m5 26 rfl) rfl
theorem q1144 : (Jvm.Cond.privateMethod ({ cls := "TermLog$Cluster", name := "isHanded", desc := "()V" } : Jvm.MethodName)) ∈ lw_tbl := lw_at lw_m5 27 rfl
theorem q1145 : (Jvm.Cond.instanceMethod ({ cls := "TermLog$Cluster", name := "isHanded", desc := "()V" } : Jvm.MethodName)) ∈ lw_all := lw_g (lw_at lw_m5 28 rfl) rfl
theorem q1146 : (Jvm.Cond.code ({ cls := "TermLog$Cluster", name := "isHanded", desc := "()V" } : Jvm.MethodName) prog_3_method_33_code (3 : Nat) (Option.none : Option Jvm.ClassFile.FieldType)) ∈ lw_all := lw_g (lw_at lw_m5 29 rfl) rfl
theorem q1147 : (Jvm.Cond.methodLink "TermLog$Cluster" (304 : Nat) ({ cls := "TermLog$Cluster", name := "areLinked", desc := "(II)Z" } : Jvm.MethodName)) ∈ lw_all := lw_g (lw_at lw_m5 30 rfl) rfl
theorem q1148 : (Jvm.Cond.privateMethod ({ cls := "TermLog$Cluster", name := "areLinked", desc := "(II)Z" } : Jvm.MethodName)) ∈ lw_tbl := lw_at lw_m5 31 rfl
theorem q1149 : (Jvm.Cond.instanceMethod ({ cls := "TermLog$Cluster", name := "areLinked", desc := "(II)Z" } : Jvm.MethodName)) ∈ lw_all := lw_g (lw_at lw_m5 32 rfl) rfl
theorem q1150 : (Jvm.Cond.code ({ cls := "TermLog$Cluster", name := "areLinked", desc := "(II)Z" } : Jvm.MethodName) prog_3_method_32_code (3 : Nat) (Option.some Jvm.ClassFile.FieldType.boolean)) ∈ lw_all := lw_g (lw_at lw_m5 33 rfl) rfl
theorem q1151 : (Jvm.Cond.methodLink "TermLog$Cluster" (307 : Nat) ({ cls := "TermLog$Cluster", name := "votes", desc := "(I)V" } : Jvm.MethodName)) ∈ lw_all := lw_g (lw_at lw_m5 34 rfl) rfl
theorem q1152 : (Jvm.Cond.privateMethod ({ cls := "TermLog$Cluster", name := "votes", desc := "(I)V" } : Jvm.MethodName)) ∈ lw_tbl := lw_at lw_m5 35 rfl
theorem q1153 : (Jvm.Cond.instanceMethod ({ cls := "TermLog$Cluster", name := "votes", desc := "(I)V" } : Jvm.MethodName)) ∈ lw_all := lw_g (lw_at lw_m5 36 rfl) rfl
theorem q1154 : (Jvm.Cond.code ({ cls := "TermLog$Cluster", name := "votes", desc := "(I)V" } : Jvm.MethodName) prog_3_method_18_code (4 : Nat) (Option.none : Option Jvm.ClassFile.FieldType)) ∈ lw_all := lw_g (lw_at lw_m5 37 rfl) rfl
theorem q1155 : (Jvm.Cond.methodLink "TermLog$Cluster" (240 : Nat) ({ cls := "TermLog$Node", name := "isNoLess", desc := "(II)Z" } : Jvm.MethodName)) ∈ lw_all := lw_g (lw_at lw_m5 38 rfl) rfl
theorem q1159 : (Jvm.Cond.methodLink "TermLog$Cluster" (243 : Nat) ({ cls := "TermLog$Cluster", name := "answers", desc := "(IIIIII)V" } : Jvm.MethodName)) ∈ lw_all := lw_g (lw_at lw_m5 42 rfl) rfl
theorem q1160 : (Jvm.Cond.privateMethod ({ cls := "TermLog$Cluster", name := "answers", desc := "(IIIIII)V" } : Jvm.MethodName)) ∈ lw_tbl := lw_at lw_m5 43 rfl
theorem q1161 : (Jvm.Cond.instanceMethod ({ cls := "TermLog$Cluster", name := "answers", desc := "(IIIIII)V" } : Jvm.MethodName)) ∈ lw_all := lw_g (lw_at lw_m5 44 rfl) rfl
theorem q1162 : (Jvm.Cond.code ({ cls := "TermLog$Cluster", name := "answers", desc := "(IIIIII)V" } : Jvm.MethodName) prog_3_method_10_code (7 : Nat) (Option.none : Option Jvm.ClassFile.FieldType)) ∈ lw_all := lw_g (lw_at lw_m5 45 rfl) rfl
theorem q1163 : (Jvm.Cond.methodLink "TermLog$Cluster" (309 : Nat) ({ cls := "TermLog$Cluster", name := "countsVote", desc := "(I)V" } : Jvm.MethodName)) ∈ lw_all := lw_g (lw_at lw_m5 46 rfl) rfl
theorem q1164 : (Jvm.Cond.privateMethod ({ cls := "TermLog$Cluster", name := "countsVote", desc := "(I)V" } : Jvm.MethodName)) ∈ lw_tbl := lw_at lw_m5 47 rfl
theorem q1165 : (Jvm.Cond.instanceMethod ({ cls := "TermLog$Cluster", name := "countsVote", desc := "(I)V" } : Jvm.MethodName)) ∈ lw_all := lw_g (lw_at lw_m5 48 rfl) rfl
theorem q1166 : (Jvm.Cond.code ({ cls := "TermLog$Cluster", name := "countsVote", desc := "(I)V" } : Jvm.MethodName) prog_3_method_19_code (3 : Nat) (Option.none : Option Jvm.ClassFile.FieldType)) ∈ lw_all := lw_g (lw_at lw_m5 49 rfl) rfl
theorem q1167 : (Jvm.Cond.methodLink "TermLog$Cluster" (218 : Nat) ({ cls := "TermLog$Cluster", name := "leads", desc := "(I)V" } : Jvm.MethodName)) ∈ lw_all := lw_g (lw_at lw_m5 50 rfl) rfl
theorem q1168 : (Jvm.Cond.privateMethod ({ cls := "TermLog$Cluster", name := "leads", desc := "(I)V" } : Jvm.MethodName)) ∈ lw_tbl := lw_at lw_m5 51 rfl
theorem q1169 : (Jvm.Cond.instanceMethod ({ cls := "TermLog$Cluster", name := "leads", desc := "(I)V" } : Jvm.MethodName)) ∈ lw_all := lw_g (lw_at lw_m5 52 rfl) rfl
theorem q1170 : (Jvm.Cond.code ({ cls := "TermLog$Cluster", name := "leads", desc := "(I)V" } : Jvm.MethodName) prog_3_method_17_code (4 : Nat) (Option.none : Option Jvm.ClassFile.FieldType)) ∈ lw_all := lw_g (lw_at lw_m5 53 rfl) rfl
theorem q1171 : (Jvm.Cond.methodLink "TermLog$Cluster" (312 : Nat) ({ cls := "TermLog$Cluster", name := "takesEntries", desc := "(I)V" } : Jvm.MethodName)) ∈ lw_all := lw_g (lw_at lw_m5 54 rfl) rfl
theorem q1172 : (Jvm.Cond.privateMethod ({ cls := "TermLog$Cluster", name := "takesEntries", desc := "(I)V" } : Jvm.MethodName)) ∈ lw_tbl := lw_at lw_m5 55 rfl
theorem q1173 : (Jvm.Cond.instanceMethod ({ cls := "TermLog$Cluster", name := "takesEntries", desc := "(I)V" } : Jvm.MethodName)) ∈ lw_all := lw_g (lw_at lw_m5 56 rfl) rfl
theorem q1174 : (Jvm.Cond.code ({ cls := "TermLog$Cluster", name := "takesEntries", desc := "(I)V" } : Jvm.MethodName) prog_3_method_23_code (7 : Nat) (Option.none : Option Jvm.ClassFile.FieldType)) ∈ lw_all := lw_g (lw_at lw_m5 57 rfl) rfl
theorem q1175 : (Jvm.Cond.methodLink "TermLog$Cluster" (264 : Nat) ({ cls := "TermLog$Node", name := "firstOfTerm", desc := "(I)I" } : Jvm.MethodName)) ∈ lw_all := lw_g (lw_at lw_m5 58 rfl) rfl
theorem q1180 : (Jvm.Cond.methodLink "TermLog$Cluster" (267 : Nat) ({ cls := "TermLog$Cluster", name := "comesTo", desc := "(III)Z" } : Jvm.MethodName)) ∈ lw_all := lw_g (lw_at lw_m5 63 rfl) rfl
theorem q1181 : (Jvm.Cond.privateMethod ({ cls := "TermLog$Cluster", name := "comesTo", desc := "(III)Z" } : Jvm.MethodName)) ∈ lw_tbl := lw_at lw_m5 64 rfl
theorem q1182 : (Jvm.Cond.instanceMethod ({ cls := "TermLog$Cluster", name := "comesTo", desc := "(III)Z" } : Jvm.MethodName)) ∈ lw_all := lw_g (lw_at lw_m5 65 rfl) rfl
theorem q1183 : (Jvm.Cond.code ({ cls := "TermLog$Cluster", name := "comesTo", desc := "(III)Z" } : Jvm.MethodName) prog_3_method_22_code (6 : Nat) (Option.some Jvm.ClassFile.FieldType.boolean)) ∈ lw_all := lw_g (lw_at lw_m5 66 rfl) rfl
theorem q1184 : (Jvm.Cond.methodLink "TermLog$Cluster" (257 : Nat) ({ cls := "TermLog$Node", name := "hasEntry", desc := "(I)Z" } : Jvm.MethodName)) ∈ lw_all := lw_g (lw_at lw_m5 67 rfl) rfl
theorem q1188 : (Jvm.Cond.methodLink "TermLog$Cluster" (315 : Nat) ({ cls := "TermLog$Cluster", name := "takesSnapshot", desc := "(I)V" } : Jvm.MethodName)) ∈ lw_all := lw_g (lw_at lw_m5 71 rfl) rfl
theorem q1189 : (Jvm.Cond.privateMethod ({ cls := "TermLog$Cluster", name := "takesSnapshot", desc := "(I)V" } : Jvm.MethodName)) ∈ lw_tbl := lw_at lw_m5 72 rfl
theorem q1190 : (Jvm.Cond.instanceMethod ({ cls := "TermLog$Cluster", name := "takesSnapshot", desc := "(I)V" } : Jvm.MethodName)) ∈ lw_all := lw_g (lw_at lw_m5 73 rfl) rfl
theorem q1191 : (Jvm.Cond.code ({ cls := "TermLog$Cluster", name := "takesSnapshot", desc := "(I)V" } : Jvm.MethodName) prog_3_method_24_code (6 : Nat) (Option.none : Option Jvm.ClassFile.FieldType)) ∈ lw_all := lw_g (lw_at lw_m5 74 rfl) rfl
theorem q1192 : (Jvm.Cond.methodLinkNest "TermLog$Cluster" (274 : Nat) ({ cls := "TermLog$Node", name := "goes", desc := "(I)V" } : Jvm.MethodName) "TermLog") ∈ lw_tbl := lw_at lw_m5 75 rfl
theorem q1193 : (Jvm.Cond.methodLink "TermLog$Cluster" (318 : Nat) ({ cls := "TermLog$Cluster", name := "isAnswered", desc := "(I)V" } : Jvm.MethodName)) ∈ lw_all := lw_g (lw_at lw_m5 76 rfl) rfl
theorem q1194 : (Jvm.Cond.privateMethod ({ cls := "TermLog$Cluster", name := "isAnswered", desc := "(I)V" } : Jvm.MethodName)) ∈ lw_tbl := lw_at lw_m5 77 rfl
theorem q1195 : (Jvm.Cond.instanceMethod ({ cls := "TermLog$Cluster", name := "isAnswered", desc := "(I)V" } : Jvm.MethodName)) ∈ lw_all := lw_g (lw_at lw_m5 78 rfl) rfl
theorem q1196 : (Jvm.Cond.code ({ cls := "TermLog$Cluster", name := "isAnswered", desc := "(I)V" } : Jvm.MethodName) prog_3_method_27_code (4 : Nat) (Option.none : Option Jvm.ClassFile.FieldType)) ∈ lw_all := lw_g (lw_at lw_m5 79 rfl) rfl
theorem q1197 : (Jvm.Cond.methodLink "TermLog$Cluster" (277 : Nat) ({ cls := "TermLog$Cluster", name := "isLeadersOwn", desc := "(I)Z" } : Jvm.MethodName)) ∈ lw_all := lw_g (lw_at lw_m5 80 rfl) rfl
theorem q1198 : (Jvm.Cond.privateMethod ({ cls := "TermLog$Cluster", name := "isLeadersOwn", desc := "(I)Z" } : Jvm.MethodName)) ∈ lw_tbl := lw_at lw_m5 81 rfl
theorem q1199 : (Jvm.Cond.instanceMethod ({ cls := "TermLog$Cluster", name := "isLeadersOwn", desc := "(I)Z" } : Jvm.MethodName)) ∈ lw_all := lw_g (lw_at lw_m5 82 rfl) rfl
theorem q1200 : (Jvm.Cond.code ({ cls := "TermLog$Cluster", name := "isLeadersOwn", desc := "(I)Z" } : Jvm.MethodName) prog_3_method_25_code (2 : Nat) (Option.some Jvm.ClassFile.FieldType.boolean)) ∈ lw_all := lw_g (lw_at lw_m5 83 rfl) rfl
theorem q1201 : (Jvm.Cond.methodLink "TermLog$Cluster" (280 : Nat) ({ cls := "TermLog$Cluster", name := "hears", desc := "(III)V" } : Jvm.MethodName)) ∈ lw_all := lw_g (lw_at lw_m5 84 rfl) rfl
theorem q1202 : (Jvm.Cond.privateMethod ({ cls := "TermLog$Cluster", name := "hears", desc := "(III)V" } : Jvm.MethodName)) ∈ lw_tbl := lw_at lw_m5 85 rfl
theorem q1203 : (Jvm.Cond.instanceMethod ({ cls := "TermLog$Cluster", name := "hears", desc := "(III)V" } : Jvm.MethodName)) ∈ lw_all := lw_g (lw_at lw_m5 86 rfl) rfl
theorem q1204 : (Jvm.Cond.code ({ cls := "TermLog$Cluster", name := "hears", desc := "(III)V" } : Jvm.MethodName) prog_3_method_26_code (6 : Nat) (Option.none : Option Jvm.ClassFile.FieldType)) ∈ lw_all := lw_g (lw_at lw_m5 87 rfl) rfl
theorem q1205 : (Jvm.Cond.methodLink "TermLog$Cluster" (284 : Nat) ({ cls := "TermLog$Cluster", name := "answersReads", desc := "(I)V" } : Jvm.MethodName)) ∈ lw_all := lw_g (lw_at lw_m5 88 rfl) rfl
theorem q1206 : (Jvm.Cond.methodLink "TermLog$Cluster" (330 : Nat) ({ cls := "TermLog$Cluster", name := "beats", desc := "(I)V" } : Jvm.MethodName)) ∈ lw_all := lw_g (lw_at lw_m5 89 rfl) rfl
theorem q1207 : (Jvm.Cond.privateMethod ({ cls := "TermLog$Cluster", name := "beats", desc := "(I)V" } : Jvm.MethodName)) ∈ lw_tbl := lw_at lw_m5 90 rfl
theorem q1208 : (Jvm.Cond.instanceMethod ({ cls := "TermLog$Cluster", name := "beats", desc := "(I)V" } : Jvm.MethodName)) ∈ lw_all := lw_g (lw_at lw_m5 91 rfl) rfl
theorem q1209 : (Jvm.Cond.code ({ cls := "TermLog$Cluster", name := "beats", desc := "(I)V" } : Jvm.MethodName) prog_3_method_34_code (3 : Nat) (Option.none : Option Jvm.ClassFile.FieldType)) ∈ lw_all := lw_g (lw_at lw_m5 92 rfl) rfl
theorem q1210 : (Jvm.Cond.methodLink "TermLog$Cluster" (321 : Nat) ({ cls := "TermLog$Cluster", name := "stands", desc := "(I)V" } : Jvm.MethodName)) ∈ lw_all := lw_g (lw_at lw_m5 93 rfl) rfl
theorem q1211 : (Jvm.Cond.privateMethod ({ cls := "TermLog$Cluster", name := "stands", desc := "(I)V" } : Jvm.MethodName)) ∈ lw_tbl := lw_at lw_m5 94 rfl
theorem q1212 : (Jvm.Cond.instanceMethod ({ cls := "TermLog$Cluster", name := "stands", desc := "(I)V" } : Jvm.MethodName)) ∈ lw_all := lw_g (lw_at lw_m5 95 rfl) rfl
theorem q1213 : (Jvm.Cond.code ({ cls := "TermLog$Cluster", name := "stands", desc := "(I)V" } : Jvm.MethodName) prog_3_method_16_code (4 : Nat) (Option.none : Option Jvm.ClassFile.FieldType)) ∈ lw_all := lw_g (lw_at lw_m5 96 rfl) rfl
theorem q1230 : (Jvm.Cond.instanceMethod ({ cls := "TermLog$Cluster", name := "takes", desc := "(LTermLog$Cluster;)LTermLog$Cluster;" } : Jvm.MethodName)) ∈ lw_all := lw_g (lw_at lw_m5 113 rfl) rfl
theorem q1231 : (Jvm.Cond.selects "TermLog$Cluster" ({ cls := "TermLog$Cluster", name := "takes", desc := "(LTermLog$Cluster;)LTermLog$Cluster;" } : Jvm.MethodName) ({ cls := "TermLog$Cluster", name := "takes", desc := "(LTermLog$Cluster;)LTermLog$Cluster;" } : Jvm.MethodName)) ∈ lw_all := lw_g (lw_at lw_m5 114 rfl) rfl
theorem q1232 : (Jvm.Cond.code ({ cls := "TermLog$Cluster", name := "takes", desc := "(LTermLog$Cluster;)LTermLog$Cluster;" } : Jvm.MethodName) prog_3_method_2_code (3 : Nat) (Option.some (Jvm.ClassFile.FieldType.object "TermLog$Cluster"))) ∈ lw_all := lw_g (lw_at lw_m5 115 rfl) rfl
theorem q1233 : (Jvm.Cond.methodLink "TermLog$Cluster" (46 : Nat) ({ cls := "TermLog$Node", name := "takes", desc := "(LTermLog$Node;)V" } : Jvm.MethodName)) ∈ lw_all := lw_g (lw_at lw_m5 116 rfl) rfl
theorem q1238 : (Jvm.Cond.instanceMethod ({ cls := "TermLog$Cluster", name := "leads", desc := "()I" } : Jvm.MethodName)) ∈ lw_all := lw_g (lw_at lw_m5 121 rfl) rfl
theorem q1239 : (Jvm.Cond.selects "TermLog$Cluster" ({ cls := "TermLog$Cluster", name := "leads", desc := "()I" } : Jvm.MethodName) ({ cls := "TermLog$Cluster", name := "leads", desc := "()I" } : Jvm.MethodName)) ∈ lw_all := lw_g (lw_at lw_m5 122 rfl) rfl
theorem q1240 : (Jvm.Cond.code ({ cls := "TermLog$Cluster", name := "leads", desc := "()I" } : Jvm.MethodName) prog_3_method_37_code (3 : Nat) (Option.some Jvm.ClassFile.FieldType.int)) ∈ lw_all := lw_g (lw_at lw_m5 123 rfl) rfl
theorem q1320 : (Jvm.Cond.instanceMethod ({ cls := "TermLog$Cluster", name := "haveAllHeld", desc := "()Z" } : Jvm.MethodName)) ∈ lw_all := lw_g (lw_at lw_m5 203 rfl) rfl
theorem q1321 : (Jvm.Cond.selects "TermLog$Cluster" ({ cls := "TermLog$Cluster", name := "haveAllHeld", desc := "()Z" } : Jvm.MethodName) ({ cls := "TermLog$Cluster", name := "haveAllHeld", desc := "()Z" } : Jvm.MethodName)) ∈ lw_all := lw_g (lw_at lw_m5 204 rfl) rfl
theorem q1322 : (Jvm.Cond.code ({ cls := "TermLog$Cluster", name := "haveAllHeld", desc := "()Z" } : Jvm.MethodName) prog_3_method_41_code (5 : Nat) (Option.some Jvm.ClassFile.FieldType.boolean)) ∈ lw_all := lw_g (lw_at lw_m5 205 rfl) rfl
theorem in_X3 : ∀ w ∈ wsX30, w ∈ lw_all := lw_in wsX30 [389, 391, 393, 395, 397, 399, 401, 403, 405, 407, 409, 411, 413, 415, 417, 419, 421] (by decide +kernel) (by decide +kernel)
