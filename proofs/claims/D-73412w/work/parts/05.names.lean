/-! TermLogModel -/
set_option maxRecDepth 100000
def RX8 : String := "TermLogModel"
def TX8 : u_T := fun k => match k with
  | 0 => ("TermLogModel", "now", "[I", true)
  | 1 => ("TermLogModel", "aside", "[I", true)
  | 2 => ("TermLogModel", "kept", "[I", true)
  | 3 => ("TermLogModel", "mailNow", "[I", true)
  | 4 => ("TermLogModel", "mailIn", "[I", true)
  | 5 => ("TermLogModel", "tape", "[B", true)
  | 6 => ("TermLogModel", "taped", "I", false)
  | 7 => ("TermLogModel", "place0", "I", false)
  | 8 => ("TermLogModel", "length0", "I", false)
  | 9 => ("TermLogModel", "fault", "I", false)
  | 10 => ("TermLogModel", "number0", "I", false)
  | 11 => ("TermLogModel", "open", "I", false)
  | 12 => ("TermLogModel", "codeMany", "I", false)
  | 13 => ("TermLogModel", "waiting", "I", false)
  | 14 => ("TermLogModel", "saidMany", "I", false)
  | 15 => ("TermLogModel", "clauses", "I", false)
  | 16 => ("TermLogModel", "said", "[I", true)
  | 17 => ("TermLogModel", "waitsAt", "[I", true)
  | 18 => ("TermLogModel", "saidLetter", "[I", true)
  | 19 => ("TermLogModel", "saidFrom", "[I", true)
  | 20 => ("TermLogModel", "saidHalf", "[I", true)
  | 21 => ("TermLogModel", "saidTo", "[I", true)
  | 22 => ("TermLogModel", "codes", "[I", true)
  | 23 => ("TermLogModel", "clauseOf", "[I", true)
  | 24 => ("TermLogModel", "codeFrom", "[I", true)
  | 25 => ("TermLogModel", "codeHalf", "[I", true)
  | 26 => ("TermLogModel", "codeTo", "[I", true)
  | 27 => ("TermLogModel", "stack", "[I", true)
  | 28 => ("TermLogModel", "facts", "[I", true)
  | 29 => ("TermLogModel", "heldNow", "I", false)
  | 30 => ("TermLogModel", "actOf", "[I", true)
  | 31 => ("TermLogModel", "actA", "[I", true)
  | 32 => ("TermLogModel", "actB", "[I", true)
  | 33 => ("TermLogModel", "actC", "[I", true)
  | 34 => ("TermLogModel", "roundFrom", "[I", true)
  | 35 => ("TermLogModel", "roundAt", "[I", true)
  | 36 => ("TermLogModel", "roundTimes", "[I", true)
  | 37 => ("TermLogModel", "actMany", "I", false)
  | 38 => ("TermLogModel", "rounds", "I", false)
  | 39 => ("TermLogModel", "itFrom", "I", false)
  | 40 => ("TermLogModel", "itTimes", "I", false)
  | 41 => ("TermLogModel", "numberA", "I", false)
  | 42 => ("TermLogModel", "numberB", "I", false)
  | 43 => ("TermLogModel", "numberC", "I", false)
  | _ => ("TermLogModel", "isKept", "Z", false)
def tyX8 : Nat → FieldType := fun k => match k with
  | 0 => .array .int
  | 1 => .array .int
  | 2 => .array .int
  | 3 => .array .int
  | 4 => .array .int
  | 5 => .array .byte
  | 6 => .int
  | 7 => .int
  | 8 => .int
  | 9 => .int
  | 10 => .int
  | 11 => .int
  | 12 => .int
  | 13 => .int
  | 14 => .int
  | 15 => .int
  | 16 => .array .int
  | 17 => .array .int
  | 18 => .array .int
  | 19 => .array .int
  | 20 => .array .int
  | 21 => .array .int
  | 22 => .array .int
  | 23 => .array .int
  | 24 => .array .int
  | 25 => .array .int
  | 26 => .array .int
  | 27 => .array .int
  | 28 => .array .int
  | 29 => .int
  | 30 => .array .int
  | 31 => .array .int
  | 32 => .array .int
  | 33 => .array .int
  | 34 => .array .int
  | 35 => .array .int
  | 36 => .array .int
  | 37 => .int
  | 38 => .int
  | 39 => .int
  | 40 => .int
  | 41 => .int
  | 42 => .int
  | 43 => .int
  | _ => .boolean
abbrev wsX80 : List Cond := u_ws RX8 TX8 45
set_option maxRecDepth 100000 in
theorem nmX8 : ∀ a, a < 45 → ∀ b, b < 45 → a ≠ b → (TX8 a).2.1 ≠ (TX8 b).2.1 := by decide +kernel
set_option maxRecDepth 100000 in
theorem tyX8_ok : ∀ k, k < 45 → parseFieldDescriptor (TX8 k).2.2.1 = some (tyX8 k) := by decide +kernel
abbrev cX8_init : ByteArray := prog_18_method_1_code
def yX8_init : MethodName := ⟨RX8, "<init>", "()V"⟩
def dkwX8_init_10 : List UInt8 := [182, 0, 89, 177]
abbrev dktX8_init_10 : List UInt8 := dkwX8_init_10 ++ []
def dkwX8_init_9 : List UInt8 := [181, 0, 83, 42, 5, 188, 10, 181, 0, 86, 42, 180, 0, 7, 17, 43, 124, 4, 79, 42, 16, 7]
abbrev dktX8_init_9 : List UInt8 := dkwX8_init_9 ++ dktX8_init_10
def dkwX8_init_8 : List UInt8 := [181, 0, 74, 42, 17, 0, 200, 188, 10, 181, 0, 77, 42, 5, 188, 10, 181, 0, 80, 42, 5, 188, 10]
abbrev dktX8_init_8 : List UInt8 := dkwX8_init_8 ++ dktX8_init_9
def dkwX8_init_7 : List UInt8 := [17, 0, 200, 188, 10, 181, 0, 68, 42, 17, 0, 200, 188, 10, 181, 0, 71, 42, 17, 0, 200, 188, 10]
abbrev dktX8_init_7 : List UInt8 := dkwX8_init_7 ++ dktX8_init_8
def dkwX8_init_6 : List UInt8 := [188, 10, 181, 0, 59, 42, 17, 1, 4, 188, 10, 181, 0, 62, 42, 16, 7, 188, 10, 181, 0, 65, 42]
abbrev dktX8_init_6 : List UInt8 := dkwX8_init_6 ++ dktX8_init_7
def dkwX8_init_5 : List UInt8 := [188, 10, 181, 0, 50, 42, 16, 16, 188, 10, 181, 0, 53, 42, 16, 16, 188, 10, 181, 0, 56, 42, 16, 16]
abbrev dktX8_init_5 : List UInt8 := dkwX8_init_5 ++ dktX8_init_6
def dkwX8_init_4 : List UInt8 := [181, 0, 41, 42, 16, 16, 188, 10, 181, 0, 44, 42, 17, 1, 4, 188, 10, 181, 0, 47, 42, 16, 16]
abbrev dktX8_init_4 : List UInt8 := dkwX8_init_4 ++ dktX8_init_5
def dkwX8_init_3 : List UInt8 := [181, 0, 32, 42, 16, 16, 188, 10, 181, 0, 35, 42, 16, 16, 188, 10, 181, 0, 38, 42, 16, 16, 188, 10]
abbrev dktX8_init_3 : List UInt8 := dkwX8_init_3 ++ dktX8_init_4
def dkwX8_init_2 : List UInt8 := [42, 17, 1, 4, 188, 8, 181, 0, 25, 42, 17, 1, 4, 188, 10, 181, 0, 29, 42, 17, 1, 4, 188, 10]
abbrev dktX8_init_2 : List UInt8 := dkwX8_init_2 ++ dktX8_init_3
def dkwX8_init_1 : List UInt8 := [17, 43, 130, 188, 10, 181, 0, 16, 42, 16, 27, 188, 10, 181, 0, 19, 42, 16, 27, 188, 10, 181, 0, 22]
abbrev dktX8_init_1 : List UInt8 := dkwX8_init_1 ++ dktX8_init_2
def dkwX8_init_0 : List UInt8 := [42, 183, 0, 1, 42, 17, 43, 130, 188, 10, 181, 0, 7, 42, 17, 43, 130, 188, 10, 181, 0, 13, 42]
abbrev dktX8_init_0 : List UInt8 := dkwX8_init_0 ++ dktX8_init_1
theorem dksX8_init_0 : cX8_init.data.toList.drop 0 = dktX8_init_0 := by decide +kernel
theorem dksX8_init_1 : cX8_init.data.toList.drop 23 = dktX8_init_1 := dk_seg dksX8_init_0 23 rfl rfl
theorem dksX8_init_2 : cX8_init.data.toList.drop 47 = dktX8_init_2 := dk_seg dksX8_init_1 24 rfl rfl
theorem dksX8_init_3 : cX8_init.data.toList.drop 71 = dktX8_init_3 := dk_seg dksX8_init_2 24 rfl rfl
theorem dksX8_init_4 : cX8_init.data.toList.drop 95 = dktX8_init_4 := dk_seg dksX8_init_3 24 rfl rfl
theorem dksX8_init_5 : cX8_init.data.toList.drop 118 = dktX8_init_5 := dk_seg dksX8_init_4 23 rfl rfl
theorem dksX8_init_6 : cX8_init.data.toList.drop 142 = dktX8_init_6 := dk_seg dksX8_init_5 24 rfl rfl
theorem dksX8_init_7 : cX8_init.data.toList.drop 165 = dktX8_init_7 := dk_seg dksX8_init_6 23 rfl rfl
theorem dksX8_init_8 : cX8_init.data.toList.drop 188 = dktX8_init_8 := dk_seg dksX8_init_7 23 rfl rfl
theorem dksX8_init_9 : cX8_init.data.toList.drop 211 = dktX8_init_9 := dk_seg dksX8_init_8 23 rfl rfl
theorem dksX8_init_10 : cX8_init.data.toList.drop 233 = dktX8_init_10 := dk_seg dksX8_init_9 22 rfl rfl
theorem dX8_init_0 : decode cX8_init 0 = .ok (.aload_n 0, 1) := dk_42 (dk_at dksX8_init_0 0 rfl rfl)
theorem dX8_init_1 : decode cX8_init 1 = .ok (.invokespecial 1, 3) := dk_183 0 1 (dk_at dksX8_init_0 1 rfl rfl)
theorem dX8_init_4 : decode cX8_init 4 = .ok (.aload_n 0, 1) := dk_42 (dk_at dksX8_init_0 4 rfl rfl)
theorem dX8_init_5 : decode cX8_init 5 = .ok (.sipush 11138, 3) := dk_17 43 130 (dk_at dksX8_init_0 5 rfl rfl)
theorem dX8_init_8 : decode cX8_init 8 = .ok (.newarray .int, 2) := dk_188_10 (dk_at dksX8_init_0 8 rfl rfl)
theorem dX8_init_10 : decode cX8_init 10 = .ok (.putfield 7, 3) := dk_181 0 7 (dk_at dksX8_init_0 10 rfl rfl)
theorem dX8_init_13 : decode cX8_init 13 = .ok (.aload_n 0, 1) := dk_42 (dk_at dksX8_init_0 13 rfl rfl)
theorem dX8_init_14 : decode cX8_init 14 = .ok (.sipush 11138, 3) := dk_17 43 130 (dk_at dksX8_init_0 14 rfl rfl)
theorem dX8_init_17 : decode cX8_init 17 = .ok (.newarray .int, 2) := dk_188_10 (dk_at dksX8_init_0 17 rfl rfl)
theorem dX8_init_19 : decode cX8_init 19 = .ok (.putfield 13, 3) := dk_181 0 13 (dk_at dksX8_init_0 19 rfl rfl)
theorem dX8_init_22 : decode cX8_init 22 = .ok (.aload_n 0, 1) := dk_42 (dk_at dksX8_init_0 22 rfl rfl)
theorem dX8_init_23 : decode cX8_init 23 = .ok (.sipush 11138, 3) := dk_17 43 130 (dk_at dksX8_init_1 0 rfl rfl)
theorem dX8_init_26 : decode cX8_init 26 = .ok (.newarray .int, 2) := dk_188_10 (dk_at dksX8_init_1 3 rfl rfl)
theorem dX8_init_28 : decode cX8_init 28 = .ok (.putfield 16, 3) := dk_181 0 16 (dk_at dksX8_init_1 5 rfl rfl)
theorem dX8_init_31 : decode cX8_init 31 = .ok (.aload_n 0, 1) := dk_42 (dk_at dksX8_init_1 8 rfl rfl)
theorem dX8_init_32 : decode cX8_init 32 = .ok (.bipush 27, 2) := dk_16 27 (dk_at dksX8_init_1 9 rfl rfl)
theorem dX8_init_34 : decode cX8_init 34 = .ok (.newarray .int, 2) := dk_188_10 (dk_at dksX8_init_1 11 rfl rfl)
theorem dX8_init_36 : decode cX8_init 36 = .ok (.putfield 19, 3) := dk_181 0 19 (dk_at dksX8_init_1 13 rfl rfl)
theorem dX8_init_39 : decode cX8_init 39 = .ok (.aload_n 0, 1) := dk_42 (dk_at dksX8_init_1 16 rfl rfl)
theorem dX8_init_40 : decode cX8_init 40 = .ok (.bipush 27, 2) := dk_16 27 (dk_at dksX8_init_1 17 rfl rfl)
theorem dX8_init_42 : decode cX8_init 42 = .ok (.newarray .int, 2) := dk_188_10 (dk_at dksX8_init_1 19 rfl rfl)
theorem dX8_init_44 : decode cX8_init 44 = .ok (.putfield 22, 3) := dk_181 0 22 (dk_at dksX8_init_1 21 rfl rfl)
theorem dX8_init_47 : decode cX8_init 47 = .ok (.aload_n 0, 1) := dk_42 (dk_at dksX8_init_2 0 rfl rfl)
theorem dX8_init_48 : decode cX8_init 48 = .ok (.sipush 260, 3) := dk_17 1 4 (dk_at dksX8_init_2 1 rfl rfl)
theorem dX8_init_51 : decode cX8_init 51 = .ok (.newarray .byte, 2) := dk_188_8 (dk_at dksX8_init_2 4 rfl rfl)
theorem dX8_init_53 : decode cX8_init 53 = .ok (.putfield 25, 3) := dk_181 0 25 (dk_at dksX8_init_2 6 rfl rfl)
theorem dX8_init_56 : decode cX8_init 56 = .ok (.aload_n 0, 1) := dk_42 (dk_at dksX8_init_2 9 rfl rfl)
theorem dX8_init_57 : decode cX8_init 57 = .ok (.sipush 260, 3) := dk_17 1 4 (dk_at dksX8_init_2 10 rfl rfl)
theorem dX8_init_60 : decode cX8_init 60 = .ok (.newarray .int, 2) := dk_188_10 (dk_at dksX8_init_2 13 rfl rfl)
theorem dX8_init_62 : decode cX8_init 62 = .ok (.putfield 29, 3) := dk_181 0 29 (dk_at dksX8_init_2 15 rfl rfl)
theorem dX8_init_65 : decode cX8_init 65 = .ok (.aload_n 0, 1) := dk_42 (dk_at dksX8_init_2 18 rfl rfl)
theorem dX8_init_66 : decode cX8_init 66 = .ok (.sipush 260, 3) := dk_17 1 4 (dk_at dksX8_init_2 19 rfl rfl)
theorem dX8_init_69 : decode cX8_init 69 = .ok (.newarray .int, 2) := dk_188_10 (dk_at dksX8_init_2 22 rfl rfl)
theorem dX8_init_71 : decode cX8_init 71 = .ok (.putfield 32, 3) := dk_181 0 32 (dk_at dksX8_init_3 0 rfl rfl)
theorem dX8_init_74 : decode cX8_init 74 = .ok (.aload_n 0, 1) := dk_42 (dk_at dksX8_init_3 3 rfl rfl)
theorem dX8_init_75 : decode cX8_init 75 = .ok (.bipush 16, 2) := dk_16 16 (dk_at dksX8_init_3 4 rfl rfl)
theorem dX8_init_77 : decode cX8_init 77 = .ok (.newarray .int, 2) := dk_188_10 (dk_at dksX8_init_3 6 rfl rfl)
theorem dX8_init_79 : decode cX8_init 79 = .ok (.putfield 35, 3) := dk_181 0 35 (dk_at dksX8_init_3 8 rfl rfl)
theorem dX8_init_82 : decode cX8_init 82 = .ok (.aload_n 0, 1) := dk_42 (dk_at dksX8_init_3 11 rfl rfl)
theorem dX8_init_83 : decode cX8_init 83 = .ok (.bipush 16, 2) := dk_16 16 (dk_at dksX8_init_3 12 rfl rfl)
theorem dX8_init_85 : decode cX8_init 85 = .ok (.newarray .int, 2) := dk_188_10 (dk_at dksX8_init_3 14 rfl rfl)
theorem dX8_init_87 : decode cX8_init 87 = .ok (.putfield 38, 3) := dk_181 0 38 (dk_at dksX8_init_3 16 rfl rfl)
theorem dX8_init_90 : decode cX8_init 90 = .ok (.aload_n 0, 1) := dk_42 (dk_at dksX8_init_3 19 rfl rfl)
theorem dX8_init_91 : decode cX8_init 91 = .ok (.bipush 16, 2) := dk_16 16 (dk_at dksX8_init_3 20 rfl rfl)
theorem dX8_init_93 : decode cX8_init 93 = .ok (.newarray .int, 2) := dk_188_10 (dk_at dksX8_init_3 22 rfl rfl)
theorem dX8_init_95 : decode cX8_init 95 = .ok (.putfield 41, 3) := dk_181 0 41 (dk_at dksX8_init_4 0 rfl rfl)
theorem dX8_init_98 : decode cX8_init 98 = .ok (.aload_n 0, 1) := dk_42 (dk_at dksX8_init_4 3 rfl rfl)
theorem dX8_init_99 : decode cX8_init 99 = .ok (.bipush 16, 2) := dk_16 16 (dk_at dksX8_init_4 4 rfl rfl)
theorem dX8_init_101 : decode cX8_init 101 = .ok (.newarray .int, 2) := dk_188_10 (dk_at dksX8_init_4 6 rfl rfl)
theorem dX8_init_103 : decode cX8_init 103 = .ok (.putfield 44, 3) := dk_181 0 44 (dk_at dksX8_init_4 8 rfl rfl)
theorem dX8_init_106 : decode cX8_init 106 = .ok (.aload_n 0, 1) := dk_42 (dk_at dksX8_init_4 11 rfl rfl)
theorem dX8_init_107 : decode cX8_init 107 = .ok (.sipush 260, 3) := dk_17 1 4 (dk_at dksX8_init_4 12 rfl rfl)
theorem dX8_init_110 : decode cX8_init 110 = .ok (.newarray .int, 2) := dk_188_10 (dk_at dksX8_init_4 15 rfl rfl)
theorem dX8_init_112 : decode cX8_init 112 = .ok (.putfield 47, 3) := dk_181 0 47 (dk_at dksX8_init_4 17 rfl rfl)
theorem dX8_init_115 : decode cX8_init 115 = .ok (.aload_n 0, 1) := dk_42 (dk_at dksX8_init_4 20 rfl rfl)
theorem dX8_init_116 : decode cX8_init 116 = .ok (.bipush 16, 2) := dk_16 16 (dk_at dksX8_init_4 21 rfl rfl)
theorem dX8_init_118 : decode cX8_init 118 = .ok (.newarray .int, 2) := dk_188_10 (dk_at dksX8_init_5 0 rfl rfl)
theorem dX8_init_120 : decode cX8_init 120 = .ok (.putfield 50, 3) := dk_181 0 50 (dk_at dksX8_init_5 2 rfl rfl)
theorem dX8_init_123 : decode cX8_init 123 = .ok (.aload_n 0, 1) := dk_42 (dk_at dksX8_init_5 5 rfl rfl)
theorem dX8_init_124 : decode cX8_init 124 = .ok (.bipush 16, 2) := dk_16 16 (dk_at dksX8_init_5 6 rfl rfl)
theorem dX8_init_126 : decode cX8_init 126 = .ok (.newarray .int, 2) := dk_188_10 (dk_at dksX8_init_5 8 rfl rfl)
theorem dX8_init_128 : decode cX8_init 128 = .ok (.putfield 53, 3) := dk_181 0 53 (dk_at dksX8_init_5 10 rfl rfl)
theorem dX8_init_131 : decode cX8_init 131 = .ok (.aload_n 0, 1) := dk_42 (dk_at dksX8_init_5 13 rfl rfl)
theorem dX8_init_132 : decode cX8_init 132 = .ok (.bipush 16, 2) := dk_16 16 (dk_at dksX8_init_5 14 rfl rfl)
theorem dX8_init_134 : decode cX8_init 134 = .ok (.newarray .int, 2) := dk_188_10 (dk_at dksX8_init_5 16 rfl rfl)
theorem dX8_init_136 : decode cX8_init 136 = .ok (.putfield 56, 3) := dk_181 0 56 (dk_at dksX8_init_5 18 rfl rfl)
theorem dX8_init_139 : decode cX8_init 139 = .ok (.aload_n 0, 1) := dk_42 (dk_at dksX8_init_5 21 rfl rfl)
theorem dX8_init_140 : decode cX8_init 140 = .ok (.bipush 16, 2) := dk_16 16 (dk_at dksX8_init_5 22 rfl rfl)
theorem dX8_init_142 : decode cX8_init 142 = .ok (.newarray .int, 2) := dk_188_10 (dk_at dksX8_init_6 0 rfl rfl)
theorem dX8_init_144 : decode cX8_init 144 = .ok (.putfield 59, 3) := dk_181 0 59 (dk_at dksX8_init_6 2 rfl rfl)
theorem dX8_init_147 : decode cX8_init 147 = .ok (.aload_n 0, 1) := dk_42 (dk_at dksX8_init_6 5 rfl rfl)
theorem dX8_init_148 : decode cX8_init 148 = .ok (.sipush 260, 3) := dk_17 1 4 (dk_at dksX8_init_6 6 rfl rfl)
theorem dX8_init_151 : decode cX8_init 151 = .ok (.newarray .int, 2) := dk_188_10 (dk_at dksX8_init_6 9 rfl rfl)
theorem dX8_init_153 : decode cX8_init 153 = .ok (.putfield 62, 3) := dk_181 0 62 (dk_at dksX8_init_6 11 rfl rfl)
theorem dX8_init_156 : decode cX8_init 156 = .ok (.aload_n 0, 1) := dk_42 (dk_at dksX8_init_6 14 rfl rfl)
theorem dX8_init_157 : decode cX8_init 157 = .ok (.bipush 7, 2) := dk_16 7 (dk_at dksX8_init_6 15 rfl rfl)
theorem dX8_init_159 : decode cX8_init 159 = .ok (.newarray .int, 2) := dk_188_10 (dk_at dksX8_init_6 17 rfl rfl)
theorem dX8_init_161 : decode cX8_init 161 = .ok (.putfield 65, 3) := dk_181 0 65 (dk_at dksX8_init_6 19 rfl rfl)
theorem dX8_init_164 : decode cX8_init 164 = .ok (.aload_n 0, 1) := dk_42 (dk_at dksX8_init_6 22 rfl rfl)
theorem dX8_init_165 : decode cX8_init 165 = .ok (.sipush 200, 3) := dk_17 0 200 (dk_at dksX8_init_7 0 rfl rfl)
theorem dX8_init_168 : decode cX8_init 168 = .ok (.newarray .int, 2) := dk_188_10 (dk_at dksX8_init_7 3 rfl rfl)
theorem dX8_init_170 : decode cX8_init 170 = .ok (.putfield 68, 3) := dk_181 0 68 (dk_at dksX8_init_7 5 rfl rfl)
theorem dX8_init_173 : decode cX8_init 173 = .ok (.aload_n 0, 1) := dk_42 (dk_at dksX8_init_7 8 rfl rfl)
theorem dX8_init_174 : decode cX8_init 174 = .ok (.sipush 200, 3) := dk_17 0 200 (dk_at dksX8_init_7 9 rfl rfl)
theorem dX8_init_177 : decode cX8_init 177 = .ok (.newarray .int, 2) := dk_188_10 (dk_at dksX8_init_7 12 rfl rfl)
theorem dX8_init_179 : decode cX8_init 179 = .ok (.putfield 71, 3) := dk_181 0 71 (dk_at dksX8_init_7 14 rfl rfl)
theorem dX8_init_182 : decode cX8_init 182 = .ok (.aload_n 0, 1) := dk_42 (dk_at dksX8_init_7 17 rfl rfl)
theorem dX8_init_183 : decode cX8_init 183 = .ok (.sipush 200, 3) := dk_17 0 200 (dk_at dksX8_init_7 18 rfl rfl)
theorem dX8_init_186 : decode cX8_init 186 = .ok (.newarray .int, 2) := dk_188_10 (dk_at dksX8_init_7 21 rfl rfl)
theorem dX8_init_188 : decode cX8_init 188 = .ok (.putfield 74, 3) := dk_181 0 74 (dk_at dksX8_init_8 0 rfl rfl)
theorem dX8_init_191 : decode cX8_init 191 = .ok (.aload_n 0, 1) := dk_42 (dk_at dksX8_init_8 3 rfl rfl)
theorem dX8_init_192 : decode cX8_init 192 = .ok (.sipush 200, 3) := dk_17 0 200 (dk_at dksX8_init_8 4 rfl rfl)
theorem dX8_init_195 : decode cX8_init 195 = .ok (.newarray .int, 2) := dk_188_10 (dk_at dksX8_init_8 7 rfl rfl)
theorem dX8_init_197 : decode cX8_init 197 = .ok (.putfield 77, 3) := dk_181 0 77 (dk_at dksX8_init_8 9 rfl rfl)
theorem dX8_init_200 : decode cX8_init 200 = .ok (.aload_n 0, 1) := dk_42 (dk_at dksX8_init_8 12 rfl rfl)
theorem dX8_init_201 : decode cX8_init 201 = .ok (.iconst 2, 1) := dk_5 (dk_at dksX8_init_8 13 rfl rfl)
theorem dX8_init_202 : decode cX8_init 202 = .ok (.newarray .int, 2) := dk_188_10 (dk_at dksX8_init_8 14 rfl rfl)
theorem dX8_init_204 : decode cX8_init 204 = .ok (.putfield 80, 3) := dk_181 0 80 (dk_at dksX8_init_8 16 rfl rfl)
theorem dX8_init_207 : decode cX8_init 207 = .ok (.aload_n 0, 1) := dk_42 (dk_at dksX8_init_8 19 rfl rfl)
theorem dX8_init_208 : decode cX8_init 208 = .ok (.iconst 2, 1) := dk_5 (dk_at dksX8_init_8 20 rfl rfl)
theorem dX8_init_209 : decode cX8_init 209 = .ok (.newarray .int, 2) := dk_188_10 (dk_at dksX8_init_8 21 rfl rfl)
theorem dX8_init_211 : decode cX8_init 211 = .ok (.putfield 83, 3) := dk_181 0 83 (dk_at dksX8_init_9 0 rfl rfl)
theorem dX8_init_214 : decode cX8_init 214 = .ok (.aload_n 0, 1) := dk_42 (dk_at dksX8_init_9 3 rfl rfl)
theorem dX8_init_215 : decode cX8_init 215 = .ok (.iconst 2, 1) := dk_5 (dk_at dksX8_init_9 4 rfl rfl)
theorem dX8_init_216 : decode cX8_init 216 = .ok (.newarray .int, 2) := dk_188_10 (dk_at dksX8_init_9 5 rfl rfl)
theorem dX8_init_218 : decode cX8_init 218 = .ok (.putfield 86, 3) := dk_181 0 86 (dk_at dksX8_init_9 7 rfl rfl)
theorem dX8_init_221 : decode cX8_init 221 = .ok (.aload_n 0, 1) := dk_42 (dk_at dksX8_init_9 10 rfl rfl)
theorem dX8_init_222 : decode cX8_init 222 = .ok (.getfield 7, 3) := dk_180 0 7 (dk_at dksX8_init_9 11 rfl rfl)
theorem dX8_init_225 : decode cX8_init 225 = .ok (.sipush 11132, 3) := dk_17 43 124 (dk_at dksX8_init_9 14 rfl rfl)
theorem dX8_init_228 : decode cX8_init 228 = .ok (.iconst 1, 1) := dk_4 (dk_at dksX8_init_9 17 rfl rfl)
theorem dX8_init_229 : decode cX8_init 229 = .ok (.iastore, 1) := dk_79 (dk_at dksX8_init_9 18 rfl rfl)
theorem dX8_init_230 : decode cX8_init 230 = .ok (.aload_n 0, 1) := dk_42 (dk_at dksX8_init_9 19 rfl rfl)
theorem dX8_init_231 : decode cX8_init 231 = .ok (.bipush 7, 2) := dk_16 7 (dk_at dksX8_init_9 20 rfl rfl)
theorem dX8_init_233 : decode cX8_init 233 = .ok (.invokevirtual 89, 3) := dk_182 0 89 (dk_at dksX8_init_10 0 rfl rfl)
theorem dX8_init_236 : decode cX8_init 236 = .ok (.return_, 1) := dk_177 (dk_at dksX8_init_10 3 rfl rfl)
abbrev cX8_founds : ByteArray := prog_18_method_98_code
def yX8_founds : MethodName := ⟨RX8, "founds", "(I)V"⟩
def dkwX8_founds_4 : List UInt8 := [182, 1, 39, 132, 3, 1, 167, 255, 242, 177]
abbrev dktX8_founds_4 : List UInt8 := dkwX8_founds_4 ++ []
def dkwX8_founds_3 : List UInt8 := [16, 6, 27, 182, 0, 133, 132, 3, 1, 167, 255, 217, 3, 62, 29, 16, 7, 162, 0, 14, 42, 29]
abbrev dktX8_founds_3 : List UInt8 := dkwX8_founds_3 ++ dktX8_founds_4
def dkwX8_founds_2 : List UInt8 := [42, 29, 3, 4, 182, 0, 133, 42, 29, 5, 2, 182, 0, 133, 42, 29, 16, 11, 2, 182, 0, 133, 42, 29]
abbrev dktX8_founds_2 : List UInt8 := dkwX8_founds_2 ++ dktX8_founds_3
def dkwX8_founds_1 : List UInt8 := [79, 132, 3, 1, 167, 255, 239, 42, 180, 0, 7, 17, 43, 124, 28, 79, 3, 62, 29, 16, 7, 162, 0, 39]
abbrev dktX8_founds_1 : List UInt8 := dkwX8_founds_1 ++ dktX8_founds_2
def dkwX8_founds_0 : List UInt8 := [42, 180, 0, 7, 17, 43, 124, 46, 61, 3, 62, 29, 17, 43, 130, 162, 0, 16, 42, 180, 0, 7, 29, 3]
abbrev dktX8_founds_0 : List UInt8 := dkwX8_founds_0 ++ dktX8_founds_1
theorem dksX8_founds_0 : cX8_founds.data.toList.drop 0 = dktX8_founds_0 := by decide +kernel
theorem dksX8_founds_1 : cX8_founds.data.toList.drop 24 = dktX8_founds_1 := dk_seg dksX8_founds_0 24 rfl rfl
theorem dksX8_founds_2 : cX8_founds.data.toList.drop 48 = dktX8_founds_2 := dk_seg dksX8_founds_1 24 rfl rfl
theorem dksX8_founds_3 : cX8_founds.data.toList.drop 72 = dktX8_founds_3 := dk_seg dksX8_founds_2 24 rfl rfl
theorem dksX8_founds_4 : cX8_founds.data.toList.drop 94 = dktX8_founds_4 := dk_seg dksX8_founds_3 22 rfl rfl
theorem dX8_founds_0 : decode cX8_founds 0 = .ok (.aload_n 0, 1) := dk_42 (dk_at dksX8_founds_0 0 rfl rfl)
theorem dX8_founds_1 : decode cX8_founds 1 = .ok (.getfield 7, 3) := dk_180 0 7 (dk_at dksX8_founds_0 1 rfl rfl)
theorem dX8_founds_4 : decode cX8_founds 4 = .ok (.sipush 11132, 3) := dk_17 43 124 (dk_at dksX8_founds_0 4 rfl rfl)
theorem dX8_founds_7 : decode cX8_founds 7 = .ok (.iaload, 1) := dk_46 (dk_at dksX8_founds_0 7 rfl rfl)
theorem dX8_founds_8 : decode cX8_founds 8 = .ok (.istore_n 2, 1) := dk_61 (dk_at dksX8_founds_0 8 rfl rfl)
theorem dX8_founds_9 : decode cX8_founds 9 = .ok (.iconst 0, 1) := dk_3 (dk_at dksX8_founds_0 9 rfl rfl)
theorem dX8_founds_10 : decode cX8_founds 10 = .ok (.istore_n 3, 1) := dk_62 (dk_at dksX8_founds_0 10 rfl rfl)
theorem dX8_founds_11 : decode cX8_founds 11 = .ok (.iload_n 3, 1) := dk_29 (dk_at dksX8_founds_0 11 rfl rfl)
theorem dX8_founds_12 : decode cX8_founds 12 = .ok (.sipush 11138, 3) := dk_17 43 130 (dk_at dksX8_founds_0 12 rfl rfl)
theorem dX8_founds_15 : decode cX8_founds 15 = .ok (.if_icmp .ge 16, 3) := dk_162 0 16 (dk_at dksX8_founds_0 15 rfl rfl)
theorem dX8_founds_18 : decode cX8_founds 18 = .ok (.aload_n 0, 1) := dk_42 (dk_at dksX8_founds_0 18 rfl rfl)
theorem dX8_founds_19 : decode cX8_founds 19 = .ok (.getfield 7, 3) := dk_180 0 7 (dk_at dksX8_founds_0 19 rfl rfl)
theorem dX8_founds_22 : decode cX8_founds 22 = .ok (.iload_n 3, 1) := dk_29 (dk_at dksX8_founds_0 22 rfl rfl)
theorem dX8_founds_23 : decode cX8_founds 23 = .ok (.iconst 0, 1) := dk_3 (dk_at dksX8_founds_0 23 rfl rfl)
theorem dX8_founds_24 : decode cX8_founds 24 = .ok (.iastore, 1) := dk_79 (dk_at dksX8_founds_1 0 rfl rfl)
theorem dX8_founds_25 : decode cX8_founds 25 = .ok (.iinc 3 1, 3) := dk_132 3 1 (dk_at dksX8_founds_1 1 rfl rfl)
theorem dX8_founds_28 : decode cX8_founds 28 = .ok (.goto (-17), 3) := dk_167 255 239 (dk_at dksX8_founds_1 4 rfl rfl)
theorem dX8_founds_31 : decode cX8_founds 31 = .ok (.aload_n 0, 1) := dk_42 (dk_at dksX8_founds_1 7 rfl rfl)
theorem dX8_founds_32 : decode cX8_founds 32 = .ok (.getfield 7, 3) := dk_180 0 7 (dk_at dksX8_founds_1 8 rfl rfl)
theorem dX8_founds_35 : decode cX8_founds 35 = .ok (.sipush 11132, 3) := dk_17 43 124 (dk_at dksX8_founds_1 11 rfl rfl)
theorem dX8_founds_38 : decode cX8_founds 38 = .ok (.iload_n 2, 1) := dk_28 (dk_at dksX8_founds_1 14 rfl rfl)
theorem dX8_founds_39 : decode cX8_founds 39 = .ok (.iastore, 1) := dk_79 (dk_at dksX8_founds_1 15 rfl rfl)
theorem dX8_founds_40 : decode cX8_founds 40 = .ok (.iconst 0, 1) := dk_3 (dk_at dksX8_founds_1 16 rfl rfl)
theorem dX8_founds_41 : decode cX8_founds 41 = .ok (.istore_n 3, 1) := dk_62 (dk_at dksX8_founds_1 17 rfl rfl)
theorem dX8_founds_42 : decode cX8_founds 42 = .ok (.iload_n 3, 1) := dk_29 (dk_at dksX8_founds_1 18 rfl rfl)
theorem dX8_founds_43 : decode cX8_founds 43 = .ok (.bipush 7, 2) := dk_16 7 (dk_at dksX8_founds_1 19 rfl rfl)
theorem dX8_founds_45 : decode cX8_founds 45 = .ok (.if_icmp .ge 39, 3) := dk_162 0 39 (dk_at dksX8_founds_1 21 rfl rfl)
theorem dX8_founds_48 : decode cX8_founds 48 = .ok (.aload_n 0, 1) := dk_42 (dk_at dksX8_founds_2 0 rfl rfl)
theorem dX8_founds_49 : decode cX8_founds 49 = .ok (.iload_n 3, 1) := dk_29 (dk_at dksX8_founds_2 1 rfl rfl)
theorem dX8_founds_50 : decode cX8_founds 50 = .ok (.iconst 0, 1) := dk_3 (dk_at dksX8_founds_2 2 rfl rfl)
theorem dX8_founds_51 : decode cX8_founds 51 = .ok (.iconst 1, 1) := dk_4 (dk_at dksX8_founds_2 3 rfl rfl)
theorem dX8_founds_52 : decode cX8_founds 52 = .ok (.invokevirtual 133, 3) := dk_182 0 133 (dk_at dksX8_founds_2 4 rfl rfl)
theorem dX8_founds_55 : decode cX8_founds 55 = .ok (.aload_n 0, 1) := dk_42 (dk_at dksX8_founds_2 7 rfl rfl)
theorem dX8_founds_56 : decode cX8_founds 56 = .ok (.iload_n 3, 1) := dk_29 (dk_at dksX8_founds_2 8 rfl rfl)
theorem dX8_founds_57 : decode cX8_founds 57 = .ok (.iconst 2, 1) := dk_5 (dk_at dksX8_founds_2 9 rfl rfl)
theorem dX8_founds_58 : decode cX8_founds 58 = .ok (.iconst (-1), 1) := dk_2 (dk_at dksX8_founds_2 10 rfl rfl)
theorem dX8_founds_59 : decode cX8_founds 59 = .ok (.invokevirtual 133, 3) := dk_182 0 133 (dk_at dksX8_founds_2 11 rfl rfl)
theorem dX8_founds_62 : decode cX8_founds 62 = .ok (.aload_n 0, 1) := dk_42 (dk_at dksX8_founds_2 14 rfl rfl)
theorem dX8_founds_63 : decode cX8_founds 63 = .ok (.iload_n 3, 1) := dk_29 (dk_at dksX8_founds_2 15 rfl rfl)
theorem dX8_founds_64 : decode cX8_founds 64 = .ok (.bipush 11, 2) := dk_16 11 (dk_at dksX8_founds_2 16 rfl rfl)
theorem dX8_founds_66 : decode cX8_founds 66 = .ok (.iconst (-1), 1) := dk_2 (dk_at dksX8_founds_2 18 rfl rfl)
theorem dX8_founds_67 : decode cX8_founds 67 = .ok (.invokevirtual 133, 3) := dk_182 0 133 (dk_at dksX8_founds_2 19 rfl rfl)
theorem dX8_founds_70 : decode cX8_founds 70 = .ok (.aload_n 0, 1) := dk_42 (dk_at dksX8_founds_2 22 rfl rfl)
theorem dX8_founds_71 : decode cX8_founds 71 = .ok (.iload_n 3, 1) := dk_29 (dk_at dksX8_founds_2 23 rfl rfl)
theorem dX8_founds_72 : decode cX8_founds 72 = .ok (.bipush 6, 2) := dk_16 6 (dk_at dksX8_founds_3 0 rfl rfl)
theorem dX8_founds_74 : decode cX8_founds 74 = .ok (.iload_n 1, 1) := dk_27 (dk_at dksX8_founds_3 2 rfl rfl)
theorem dX8_founds_75 : decode cX8_founds 75 = .ok (.invokevirtual 133, 3) := dk_182 0 133 (dk_at dksX8_founds_3 3 rfl rfl)
theorem dX8_founds_78 : decode cX8_founds 78 = .ok (.iinc 3 1, 3) := dk_132 3 1 (dk_at dksX8_founds_3 6 rfl rfl)
theorem dX8_founds_81 : decode cX8_founds 81 = .ok (.goto (-39), 3) := dk_167 255 217 (dk_at dksX8_founds_3 9 rfl rfl)
theorem dX8_founds_84 : decode cX8_founds 84 = .ok (.iconst 0, 1) := dk_3 (dk_at dksX8_founds_3 12 rfl rfl)
theorem dX8_founds_85 : decode cX8_founds 85 = .ok (.istore_n 3, 1) := dk_62 (dk_at dksX8_founds_3 13 rfl rfl)
theorem dX8_founds_86 : decode cX8_founds 86 = .ok (.iload_n 3, 1) := dk_29 (dk_at dksX8_founds_3 14 rfl rfl)
theorem dX8_founds_87 : decode cX8_founds 87 = .ok (.bipush 7, 2) := dk_16 7 (dk_at dksX8_founds_3 15 rfl rfl)
theorem dX8_founds_89 : decode cX8_founds 89 = .ok (.if_icmp .ge 14, 3) := dk_162 0 14 (dk_at dksX8_founds_3 17 rfl rfl)
theorem dX8_founds_92 : decode cX8_founds 92 = .ok (.aload_n 0, 1) := dk_42 (dk_at dksX8_founds_3 20 rfl rfl)
theorem dX8_founds_93 : decode cX8_founds 93 = .ok (.iload_n 3, 1) := dk_29 (dk_at dksX8_founds_3 21 rfl rfl)
theorem dX8_founds_94 : decode cX8_founds 94 = .ok (.invokevirtual 295, 3) := dk_182 1 39 (dk_at dksX8_founds_4 0 rfl rfl)
theorem dX8_founds_97 : decode cX8_founds 97 = .ok (.iinc 3 1, 3) := dk_132 3 1 (dk_at dksX8_founds_4 3 rfl rfl)
theorem dX8_founds_100 : decode cX8_founds 100 = .ok (.goto (-14), 3) := dk_167 255 242 (dk_at dksX8_founds_4 6 rfl rfl)
theorem dX8_founds_103 : decode cX8_founds 103 = .ok (.return_, 1) := dk_177 (dk_at dksX8_founds_4 9 rfl rfl)
abbrev cX8_sets : ByteArray := prog_18_method_10_code
def yX8_sets : MethodName := ⟨RX8, "sets", "(III)V"⟩
def dkwX8_sets_0 : List UInt8 := [42, 180, 0, 7, 17, 0, 244, 27, 104, 28, 96, 29, 79, 177]
abbrev dktX8_sets_0 : List UInt8 := dkwX8_sets_0 ++ []
theorem dksX8_sets_0 : cX8_sets.data.toList.drop 0 = dktX8_sets_0 := by decide +kernel
theorem dX8_sets_0 : decode cX8_sets 0 = .ok (.aload_n 0, 1) := dk_42 (dk_at dksX8_sets_0 0 rfl rfl)
theorem dX8_sets_1 : decode cX8_sets 1 = .ok (.getfield 7, 3) := dk_180 0 7 (dk_at dksX8_sets_0 1 rfl rfl)
theorem dX8_sets_4 : decode cX8_sets 4 = .ok (.sipush 244, 3) := dk_17 0 244 (dk_at dksX8_sets_0 4 rfl rfl)
theorem dX8_sets_7 : decode cX8_sets 7 = .ok (.iload_n 1, 1) := dk_27 (dk_at dksX8_sets_0 7 rfl rfl)
theorem dX8_sets_8 : decode cX8_sets 8 = .ok (.imul, 1) := dk_104 (dk_at dksX8_sets_0 8 rfl rfl)
theorem dX8_sets_9 : decode cX8_sets 9 = .ok (.iload_n 2, 1) := dk_28 (dk_at dksX8_sets_0 9 rfl rfl)
theorem dX8_sets_10 : decode cX8_sets 10 = .ok (.iadd, 1) := dk_96 (dk_at dksX8_sets_0 10 rfl rfl)
theorem dX8_sets_11 : decode cX8_sets 11 = .ok (.iload_n 3, 1) := dk_29 (dk_at dksX8_sets_0 11 rfl rfl)
theorem dX8_sets_12 : decode cX8_sets 12 = .ok (.iastore, 1) := dk_79 (dk_at dksX8_sets_0 12 rfl rfl)
theorem dX8_sets_13 : decode cX8_sets 13 = .ok (.return_, 1) := dk_177 (dk_at dksX8_sets_0 13 rfl rfl)
abbrev cX8_setsTimer : ByteArray := prog_18_method_56_code
def yX8_setsTimer : MethodName := ⟨RX8, "setsTimer", "(I)V"⟩
def dkwX8_setsTimer_1 : List UInt8 := [28, 96, 182, 0, 133, 177]
abbrev dktX8_setsTimer_1 : List UInt8 := dkwX8_setsTimer_1 ++ []
def dkwX8_setsTimer_0 : List UInt8 := [42, 27, 27, 16, 6, 182, 1, 1, 61, 42, 27, 16, 10, 42, 16, 101, 7, 16, 40, 16, 8, 182, 1, 4]
abbrev dktX8_setsTimer_0 : List UInt8 := dkwX8_setsTimer_0 ++ dktX8_setsTimer_1
theorem dksX8_setsTimer_0 : cX8_setsTimer.data.toList.drop 0 = dktX8_setsTimer_0 := by decide +kernel
theorem dksX8_setsTimer_1 : cX8_setsTimer.data.toList.drop 24 = dktX8_setsTimer_1 := dk_seg dksX8_setsTimer_0 24 rfl rfl
theorem dX8_setsTimer_0 : decode cX8_setsTimer 0 = .ok (.aload_n 0, 1) := dk_42 (dk_at dksX8_setsTimer_0 0 rfl rfl)
theorem dX8_setsTimer_1 : decode cX8_setsTimer 1 = .ok (.iload_n 1, 1) := dk_27 (dk_at dksX8_setsTimer_0 1 rfl rfl)
theorem dX8_setsTimer_2 : decode cX8_setsTimer 2 = .ok (.iload_n 1, 1) := dk_27 (dk_at dksX8_setsTimer_0 2 rfl rfl)
theorem dX8_setsTimer_3 : decode cX8_setsTimer 3 = .ok (.bipush 6, 2) := dk_16 6 (dk_at dksX8_setsTimer_0 3 rfl rfl)
theorem dX8_setsTimer_5 : decode cX8_setsTimer 5 = .ok (.invokevirtual 257, 3) := dk_182 1 1 (dk_at dksX8_setsTimer_0 5 rfl rfl)
theorem dX8_setsTimer_8 : decode cX8_setsTimer 8 = .ok (.istore_n 2, 1) := dk_61 (dk_at dksX8_setsTimer_0 8 rfl rfl)
theorem dX8_setsTimer_9 : decode cX8_setsTimer 9 = .ok (.aload_n 0, 1) := dk_42 (dk_at dksX8_setsTimer_0 9 rfl rfl)
theorem dX8_setsTimer_10 : decode cX8_setsTimer 10 = .ok (.iload_n 1, 1) := dk_27 (dk_at dksX8_setsTimer_0 10 rfl rfl)
theorem dX8_setsTimer_11 : decode cX8_setsTimer 11 = .ok (.bipush 10, 2) := dk_16 10 (dk_at dksX8_setsTimer_0 11 rfl rfl)
theorem dX8_setsTimer_13 : decode cX8_setsTimer 13 = .ok (.aload_n 0, 1) := dk_42 (dk_at dksX8_setsTimer_0 13 rfl rfl)
theorem dX8_setsTimer_14 : decode cX8_setsTimer 14 = .ok (.bipush 101, 2) := dk_16 101 (dk_at dksX8_setsTimer_0 14 rfl rfl)
theorem dX8_setsTimer_16 : decode cX8_setsTimer 16 = .ok (.iconst 4, 1) := dk_7 (dk_at dksX8_setsTimer_0 16 rfl rfl)
theorem dX8_setsTimer_17 : decode cX8_setsTimer 17 = .ok (.bipush 40, 2) := dk_16 40 (dk_at dksX8_setsTimer_0 17 rfl rfl)
theorem dX8_setsTimer_19 : decode cX8_setsTimer 19 = .ok (.bipush 8, 2) := dk_16 8 (dk_at dksX8_setsTimer_0 19 rfl rfl)
theorem dX8_setsTimer_21 : decode cX8_setsTimer 21 = .ok (.invokevirtual 260, 3) := dk_182 1 4 (dk_at dksX8_setsTimer_0 21 rfl rfl)
theorem dX8_setsTimer_24 : decode cX8_setsTimer 24 = .ok (.iload_n 2, 1) := dk_28 (dk_at dksX8_setsTimer_1 0 rfl rfl)
theorem dX8_setsTimer_25 : decode cX8_setsTimer 25 = .ok (.iadd, 1) := dk_96 (dk_at dksX8_setsTimer_1 1 rfl rfl)
theorem dX8_setsTimer_26 : decode cX8_setsTimer 26 = .ok (.invokevirtual 133, 3) := dk_182 0 133 (dk_at dksX8_setsTimer_1 2 rfl rfl)
theorem dX8_setsTimer_29 : decode cX8_setsTimer 29 = .ok (.return_, 1) := dk_177 (dk_at dksX8_setsTimer_1 5 rfl rfl)
abbrev cX8_feels : ByteArray := prog_18_method_55_code
def yX8_feels : MethodName := ⟨RX8, "feels", "(III)I"⟩
def dkwX8_feels_5 : List UInt8 := [16, 6, 46, 172]
abbrev dktX8_feels_5 : List UInt8 := dkwX8_feels_5 ++ []
def dkwX8_feels_4 : List UInt8 := [79, 42, 180, 0, 65, 16, 6, 42, 180, 0, 7, 17, 43, 124, 46, 16, 10, 112, 79, 42, 180, 0, 65]
abbrev dktX8_feels_4 : List UInt8 := dkwX8_feels_4 ++ dktX8_feels_5
def dkwX8_feels_3 : List UInt8 := [180, 0, 7, 17, 43, 125, 46, 79, 42, 180, 0, 65, 8, 42, 180, 0, 7, 17, 43, 123, 46, 16, 100, 112]
abbrev dktX8_feels_3 : List UInt8 := dkwX8_feels_3 ++ dktX8_feels_4
def dkwX8_feels_2 : List UInt8 := [29, 79, 42, 180, 0, 65, 6, 42, 27, 4, 182, 0, 101, 16, 100, 112, 79, 42, 180, 0, 65, 7, 42]
abbrev dktX8_feels_2 : List UInt8 := dkwX8_feels_2 ++ dktX8_feels_3
def dkwX8_feels_1 : List UInt8 := [19, 1, 0, 112, 79, 42, 180, 0, 65, 3, 27, 79, 42, 180, 0, 65, 4, 28, 79, 42, 180, 0, 65, 5]
abbrev dktX8_feels_1 : List UInt8 := dkwX8_feels_1 ++ dktX8_feels_2
def dkwX8_feels_0 : List UInt8 := [42, 180, 0, 7, 17, 43, 124, 17, 98, 85, 42, 180, 0, 7, 17, 43, 124, 46, 104, 17, 54, 25, 96]
abbrev dktX8_feels_0 : List UInt8 := dkwX8_feels_0 ++ dktX8_feels_1
theorem dksX8_feels_0 : cX8_feels.data.toList.drop 0 = dktX8_feels_0 := by decide +kernel
theorem dksX8_feels_1 : cX8_feels.data.toList.drop 23 = dktX8_feels_1 := dk_seg dksX8_feels_0 23 rfl rfl
theorem dksX8_feels_2 : cX8_feels.data.toList.drop 47 = dktX8_feels_2 := dk_seg dksX8_feels_1 24 rfl rfl
theorem dksX8_feels_3 : cX8_feels.data.toList.drop 70 = dktX8_feels_3 := dk_seg dksX8_feels_2 23 rfl rfl
theorem dksX8_feels_4 : cX8_feels.data.toList.drop 94 = dktX8_feels_4 := dk_seg dksX8_feels_3 24 rfl rfl
theorem dksX8_feels_5 : cX8_feels.data.toList.drop 117 = dktX8_feels_5 := dk_seg dksX8_feels_4 23 rfl rfl
theorem dX8_feels_0 : decode cX8_feels 0 = .ok (.aload_n 0, 1) := dk_42 (dk_at dksX8_feels_0 0 rfl rfl)
theorem dX8_feels_1 : decode cX8_feels 1 = .ok (.getfield 7, 3) := dk_180 0 7 (dk_at dksX8_feels_0 1 rfl rfl)
theorem dX8_feels_4 : decode cX8_feels 4 = .ok (.sipush 11132, 3) := dk_17 43 124 (dk_at dksX8_feels_0 4 rfl rfl)
theorem dX8_feels_7 : decode cX8_feels 7 = .ok (.sipush 25173, 3) := dk_17 98 85 (dk_at dksX8_feels_0 7 rfl rfl)
theorem dX8_feels_10 : decode cX8_feels 10 = .ok (.aload_n 0, 1) := dk_42 (dk_at dksX8_feels_0 10 rfl rfl)
theorem dX8_feels_11 : decode cX8_feels 11 = .ok (.getfield 7, 3) := dk_180 0 7 (dk_at dksX8_feels_0 11 rfl rfl)
theorem dX8_feels_14 : decode cX8_feels 14 = .ok (.sipush 11132, 3) := dk_17 43 124 (dk_at dksX8_feels_0 14 rfl rfl)
theorem dX8_feels_17 : decode cX8_feels 17 = .ok (.iaload, 1) := dk_46 (dk_at dksX8_feels_0 17 rfl rfl)
theorem dX8_feels_18 : decode cX8_feels 18 = .ok (.imul, 1) := dk_104 (dk_at dksX8_feels_0 18 rfl rfl)
theorem dX8_feels_19 : decode cX8_feels 19 = .ok (.sipush 13849, 3) := dk_17 54 25 (dk_at dksX8_feels_0 19 rfl rfl)
theorem dX8_feels_22 : decode cX8_feels 22 = .ok (.iadd, 1) := dk_96 (dk_at dksX8_feels_0 22 rfl rfl)
theorem dX8_feels_23 : decode cX8_feels 23 = .ok (.ldc_w 256, 3) := dk_19 1 0 (dk_at dksX8_feels_1 0 rfl rfl)
theorem dX8_feels_26 : decode cX8_feels 26 = .ok (.irem, 1) := dk_112 (dk_at dksX8_feels_1 3 rfl rfl)
theorem dX8_feels_27 : decode cX8_feels 27 = .ok (.iastore, 1) := dk_79 (dk_at dksX8_feels_1 4 rfl rfl)
theorem dX8_feels_28 : decode cX8_feels 28 = .ok (.aload_n 0, 1) := dk_42 (dk_at dksX8_feels_1 5 rfl rfl)
theorem dX8_feels_29 : decode cX8_feels 29 = .ok (.getfield 65, 3) := dk_180 0 65 (dk_at dksX8_feels_1 6 rfl rfl)
theorem dX8_feels_32 : decode cX8_feels 32 = .ok (.iconst 0, 1) := dk_3 (dk_at dksX8_feels_1 9 rfl rfl)
theorem dX8_feels_33 : decode cX8_feels 33 = .ok (.iload_n 1, 1) := dk_27 (dk_at dksX8_feels_1 10 rfl rfl)
theorem dX8_feels_34 : decode cX8_feels 34 = .ok (.iastore, 1) := dk_79 (dk_at dksX8_feels_1 11 rfl rfl)
theorem dX8_feels_35 : decode cX8_feels 35 = .ok (.aload_n 0, 1) := dk_42 (dk_at dksX8_feels_1 12 rfl rfl)
theorem dX8_feels_36 : decode cX8_feels 36 = .ok (.getfield 65, 3) := dk_180 0 65 (dk_at dksX8_feels_1 13 rfl rfl)
theorem dX8_feels_39 : decode cX8_feels 39 = .ok (.iconst 1, 1) := dk_4 (dk_at dksX8_feels_1 16 rfl rfl)
theorem dX8_feels_40 : decode cX8_feels 40 = .ok (.iload_n 2, 1) := dk_28 (dk_at dksX8_feels_1 17 rfl rfl)
theorem dX8_feels_41 : decode cX8_feels 41 = .ok (.iastore, 1) := dk_79 (dk_at dksX8_feels_1 18 rfl rfl)
theorem dX8_feels_42 : decode cX8_feels 42 = .ok (.aload_n 0, 1) := dk_42 (dk_at dksX8_feels_1 19 rfl rfl)
theorem dX8_feels_43 : decode cX8_feels 43 = .ok (.getfield 65, 3) := dk_180 0 65 (dk_at dksX8_feels_1 20 rfl rfl)
theorem dX8_feels_46 : decode cX8_feels 46 = .ok (.iconst 2, 1) := dk_5 (dk_at dksX8_feels_1 23 rfl rfl)
theorem dX8_feels_47 : decode cX8_feels 47 = .ok (.iload_n 3, 1) := dk_29 (dk_at dksX8_feels_2 0 rfl rfl)
theorem dX8_feels_48 : decode cX8_feels 48 = .ok (.iastore, 1) := dk_79 (dk_at dksX8_feels_2 1 rfl rfl)
theorem dX8_feels_49 : decode cX8_feels 49 = .ok (.aload_n 0, 1) := dk_42 (dk_at dksX8_feels_2 2 rfl rfl)
theorem dX8_feels_50 : decode cX8_feels 50 = .ok (.getfield 65, 3) := dk_180 0 65 (dk_at dksX8_feels_2 3 rfl rfl)
theorem dX8_feels_53 : decode cX8_feels 53 = .ok (.iconst 3, 1) := dk_6 (dk_at dksX8_feels_2 6 rfl rfl)
theorem dX8_feels_54 : decode cX8_feels 54 = .ok (.aload_n 0, 1) := dk_42 (dk_at dksX8_feels_2 7 rfl rfl)
theorem dX8_feels_55 : decode cX8_feels 55 = .ok (.iload_n 1, 1) := dk_27 (dk_at dksX8_feels_2 8 rfl rfl)
theorem dX8_feels_56 : decode cX8_feels 56 = .ok (.iconst 1, 1) := dk_4 (dk_at dksX8_feels_2 9 rfl rfl)
theorem dX8_feels_57 : decode cX8_feels 57 = .ok (.invokevirtual 101, 3) := dk_182 0 101 (dk_at dksX8_feels_2 10 rfl rfl)
theorem dX8_feels_60 : decode cX8_feels 60 = .ok (.bipush 100, 2) := dk_16 100 (dk_at dksX8_feels_2 13 rfl rfl)
theorem dX8_feels_62 : decode cX8_feels 62 = .ok (.irem, 1) := dk_112 (dk_at dksX8_feels_2 15 rfl rfl)
theorem dX8_feels_63 : decode cX8_feels 63 = .ok (.iastore, 1) := dk_79 (dk_at dksX8_feels_2 16 rfl rfl)
theorem dX8_feels_64 : decode cX8_feels 64 = .ok (.aload_n 0, 1) := dk_42 (dk_at dksX8_feels_2 17 rfl rfl)
theorem dX8_feels_65 : decode cX8_feels 65 = .ok (.getfield 65, 3) := dk_180 0 65 (dk_at dksX8_feels_2 18 rfl rfl)
theorem dX8_feels_68 : decode cX8_feels 68 = .ok (.iconst 4, 1) := dk_7 (dk_at dksX8_feels_2 21 rfl rfl)
theorem dX8_feels_69 : decode cX8_feels 69 = .ok (.aload_n 0, 1) := dk_42 (dk_at dksX8_feels_2 22 rfl rfl)
theorem dX8_feels_70 : decode cX8_feels 70 = .ok (.getfield 7, 3) := dk_180 0 7 (dk_at dksX8_feels_3 0 rfl rfl)
theorem dX8_feels_73 : decode cX8_feels 73 = .ok (.sipush 11133, 3) := dk_17 43 125 (dk_at dksX8_feels_3 3 rfl rfl)
theorem dX8_feels_76 : decode cX8_feels 76 = .ok (.iaload, 1) := dk_46 (dk_at dksX8_feels_3 6 rfl rfl)
theorem dX8_feels_77 : decode cX8_feels 77 = .ok (.iastore, 1) := dk_79 (dk_at dksX8_feels_3 7 rfl rfl)
theorem dX8_feels_78 : decode cX8_feels 78 = .ok (.aload_n 0, 1) := dk_42 (dk_at dksX8_feels_3 8 rfl rfl)
theorem dX8_feels_79 : decode cX8_feels 79 = .ok (.getfield 65, 3) := dk_180 0 65 (dk_at dksX8_feels_3 9 rfl rfl)
theorem dX8_feels_82 : decode cX8_feels 82 = .ok (.iconst 5, 1) := dk_8 (dk_at dksX8_feels_3 12 rfl rfl)
theorem dX8_feels_83 : decode cX8_feels 83 = .ok (.aload_n 0, 1) := dk_42 (dk_at dksX8_feels_3 13 rfl rfl)
theorem dX8_feels_84 : decode cX8_feels 84 = .ok (.getfield 7, 3) := dk_180 0 7 (dk_at dksX8_feels_3 14 rfl rfl)
theorem dX8_feels_87 : decode cX8_feels 87 = .ok (.sipush 11131, 3) := dk_17 43 123 (dk_at dksX8_feels_3 17 rfl rfl)
theorem dX8_feels_90 : decode cX8_feels 90 = .ok (.iaload, 1) := dk_46 (dk_at dksX8_feels_3 20 rfl rfl)
theorem dX8_feels_91 : decode cX8_feels 91 = .ok (.bipush 100, 2) := dk_16 100 (dk_at dksX8_feels_3 21 rfl rfl)
theorem dX8_feels_93 : decode cX8_feels 93 = .ok (.irem, 1) := dk_112 (dk_at dksX8_feels_3 23 rfl rfl)
theorem dX8_feels_94 : decode cX8_feels 94 = .ok (.iastore, 1) := dk_79 (dk_at dksX8_feels_4 0 rfl rfl)
theorem dX8_feels_95 : decode cX8_feels 95 = .ok (.aload_n 0, 1) := dk_42 (dk_at dksX8_feels_4 1 rfl rfl)
theorem dX8_feels_96 : decode cX8_feels 96 = .ok (.getfield 65, 3) := dk_180 0 65 (dk_at dksX8_feels_4 2 rfl rfl)
theorem dX8_feels_99 : decode cX8_feels 99 = .ok (.bipush 6, 2) := dk_16 6 (dk_at dksX8_feels_4 5 rfl rfl)
theorem dX8_feels_101 : decode cX8_feels 101 = .ok (.aload_n 0, 1) := dk_42 (dk_at dksX8_feels_4 7 rfl rfl)
theorem dX8_feels_102 : decode cX8_feels 102 = .ok (.getfield 7, 3) := dk_180 0 7 (dk_at dksX8_feels_4 8 rfl rfl)
theorem dX8_feels_105 : decode cX8_feels 105 = .ok (.sipush 11132, 3) := dk_17 43 124 (dk_at dksX8_feels_4 11 rfl rfl)
theorem dX8_feels_108 : decode cX8_feels 108 = .ok (.iaload, 1) := dk_46 (dk_at dksX8_feels_4 14 rfl rfl)
theorem dX8_feels_109 : decode cX8_feels 109 = .ok (.bipush 10, 2) := dk_16 10 (dk_at dksX8_feels_4 15 rfl rfl)
theorem dX8_feels_111 : decode cX8_feels 111 = .ok (.irem, 1) := dk_112 (dk_at dksX8_feels_4 17 rfl rfl)
theorem dX8_feels_112 : decode cX8_feels 112 = .ok (.iastore, 1) := dk_79 (dk_at dksX8_feels_4 18 rfl rfl)
theorem dX8_feels_113 : decode cX8_feels 113 = .ok (.aload_n 0, 1) := dk_42 (dk_at dksX8_feels_4 19 rfl rfl)
theorem dX8_feels_114 : decode cX8_feels 114 = .ok (.getfield 65, 3) := dk_180 0 65 (dk_at dksX8_feels_4 20 rfl rfl)
theorem dX8_feels_117 : decode cX8_feels 117 = .ok (.bipush 6, 2) := dk_16 6 (dk_at dksX8_feels_5 0 rfl rfl)
theorem dX8_feels_119 : decode cX8_feels 119 = .ok (.iaload, 1) := dk_46 (dk_at dksX8_feels_5 2 rfl rfl)
theorem dX8_feels_120 : decode cX8_feels 120 = .ok (.ireturn, 1) := dk_172 (dk_at dksX8_feels_5 3 rfl rfl)
abbrev cX8_the : ByteArray := prog_18_method_9_code
def yX8_the : MethodName := ⟨RX8, "the", "(II)I"⟩
def dkwX8_the_0 : List UInt8 := [42, 180, 0, 7, 17, 0, 244, 27, 104, 28, 96, 46, 172]
abbrev dktX8_the_0 : List UInt8 := dkwX8_the_0 ++ []
theorem dksX8_the_0 : cX8_the.data.toList.drop 0 = dktX8_the_0 := by decide +kernel
theorem dX8_the_0 : decode cX8_the 0 = .ok (.aload_n 0, 1) := dk_42 (dk_at dksX8_the_0 0 rfl rfl)
theorem dX8_the_1 : decode cX8_the 1 = .ok (.getfield 7, 3) := dk_180 0 7 (dk_at dksX8_the_0 1 rfl rfl)
theorem dX8_the_4 : decode cX8_the 4 = .ok (.sipush 244, 3) := dk_17 0 244 (dk_at dksX8_the_0 4 rfl rfl)
theorem dX8_the_7 : decode cX8_the 7 = .ok (.iload_n 1, 1) := dk_27 (dk_at dksX8_the_0 7 rfl rfl)
theorem dX8_the_8 : decode cX8_the 8 = .ok (.imul, 1) := dk_104 (dk_at dksX8_the_0 8 rfl rfl)
theorem dX8_the_9 : decode cX8_the 9 = .ok (.iload_n 2, 1) := dk_28 (dk_at dksX8_the_0 9 rfl rfl)
theorem dX8_the_10 : decode cX8_the 10 = .ok (.iadd, 1) := dk_96 (dk_at dksX8_the_0 10 rfl rfl)
theorem dX8_the_11 : decode cX8_the 11 = .ok (.iaload, 1) := dk_46 (dk_at dksX8_the_0 11 rfl rfl)
theorem dX8_the_12 : decode cX8_the 12 = .ok (.ireturn, 1) := dk_172 (dk_at dksX8_the_0 12 rfl rfl)
abbrev cX8_byLaw : ByteArray := prog_18_method_53_code
def yX8_byLaw : MethodName := ⟨RX8, "byLaw", "(IIII)I"⟩
def dkwX8_byLaw_4 : List UInt8 := [167, 255, 165, 21, 4, 172]
abbrev dktX8_byLaw_4 : List UInt8 := dkwX8_byLaw_4 ++ []
def dkwX8_byLaw_3 : List UInt8 := [162, 0, 7, 28, 167, 0, 15, 21, 6, 29, 164, 0, 7, 29, 167, 0, 5, 21, 6, 172, 132, 5, 1]
abbrev dktX8_byLaw_3 : List UInt8 := dkwX8_byLaw_3 ++ dktX8_byLaw_4
def dkwX8_byLaw_2 : List UInt8 := [42, 42, 180, 0, 53, 21, 5, 46, 42, 180, 0, 56, 21, 5, 46, 182, 0, 253, 54, 6, 21, 6, 28]
abbrev dktX8_byLaw_2 : List UInt8 := dkwX8_byLaw_2 ++ dktX8_byLaw_3
def dkwX8_byLaw_1 : List UInt8 := [42, 180, 0, 56, 21, 5, 46, 42, 180, 0, 59, 21, 5, 46, 182, 0, 253, 4, 159, 0, 6, 167, 0, 46]
abbrev dktX8_byLaw_1 : List UInt8 := dkwX8_byLaw_1 ++ dktX8_byLaw_2
def dkwX8_byLaw_0 : List UInt8 := [3, 54, 5, 21, 5, 42, 180, 0, 246, 162, 0, 88, 42, 180, 0, 50, 21, 5, 46, 27, 160, 0, 71, 42]
abbrev dktX8_byLaw_0 : List UInt8 := dkwX8_byLaw_0 ++ dktX8_byLaw_1
theorem dksX8_byLaw_0 : cX8_byLaw.data.toList.drop 0 = dktX8_byLaw_0 := by decide +kernel
theorem dksX8_byLaw_1 : cX8_byLaw.data.toList.drop 24 = dktX8_byLaw_1 := dk_seg dksX8_byLaw_0 24 rfl rfl
theorem dksX8_byLaw_2 : cX8_byLaw.data.toList.drop 48 = dktX8_byLaw_2 := dk_seg dksX8_byLaw_1 24 rfl rfl
theorem dksX8_byLaw_3 : cX8_byLaw.data.toList.drop 71 = dktX8_byLaw_3 := dk_seg dksX8_byLaw_2 23 rfl rfl
theorem dksX8_byLaw_4 : cX8_byLaw.data.toList.drop 94 = dktX8_byLaw_4 := dk_seg dksX8_byLaw_3 23 rfl rfl
theorem dX8_byLaw_0 : decode cX8_byLaw 0 = .ok (.iconst 0, 1) := dk_3 (dk_at dksX8_byLaw_0 0 rfl rfl)
theorem dX8_byLaw_1 : decode cX8_byLaw 1 = .ok (.istore 5, 2) := dk_54 5 (dk_at dksX8_byLaw_0 1 rfl rfl)
theorem dX8_byLaw_3 : decode cX8_byLaw 3 = .ok (.iload 5, 2) := dk_21 5 (dk_at dksX8_byLaw_0 3 rfl rfl)
theorem dX8_byLaw_5 : decode cX8_byLaw 5 = .ok (.aload_n 0, 1) := dk_42 (dk_at dksX8_byLaw_0 5 rfl rfl)
theorem dX8_byLaw_6 : decode cX8_byLaw 6 = .ok (.getfield 246, 3) := dk_180 0 246 (dk_at dksX8_byLaw_0 6 rfl rfl)
theorem dX8_byLaw_9 : decode cX8_byLaw 9 = .ok (.if_icmp .ge 88, 3) := dk_162 0 88 (dk_at dksX8_byLaw_0 9 rfl rfl)
theorem dX8_byLaw_12 : decode cX8_byLaw 12 = .ok (.aload_n 0, 1) := dk_42 (dk_at dksX8_byLaw_0 12 rfl rfl)
theorem dX8_byLaw_13 : decode cX8_byLaw 13 = .ok (.getfield 50, 3) := dk_180 0 50 (dk_at dksX8_byLaw_0 13 rfl rfl)
theorem dX8_byLaw_16 : decode cX8_byLaw 16 = .ok (.iload 5, 2) := dk_21 5 (dk_at dksX8_byLaw_0 16 rfl rfl)
theorem dX8_byLaw_18 : decode cX8_byLaw 18 = .ok (.iaload, 1) := dk_46 (dk_at dksX8_byLaw_0 18 rfl rfl)
theorem dX8_byLaw_19 : decode cX8_byLaw 19 = .ok (.iload_n 1, 1) := dk_27 (dk_at dksX8_byLaw_0 19 rfl rfl)
theorem dX8_byLaw_20 : decode cX8_byLaw 20 = .ok (.if_icmp .ne 71, 3) := dk_160 0 71 (dk_at dksX8_byLaw_0 20 rfl rfl)
theorem dX8_byLaw_23 : decode cX8_byLaw 23 = .ok (.aload_n 0, 1) := dk_42 (dk_at dksX8_byLaw_0 23 rfl rfl)
theorem dX8_byLaw_24 : decode cX8_byLaw 24 = .ok (.aload_n 0, 1) := dk_42 (dk_at dksX8_byLaw_1 0 rfl rfl)
theorem dX8_byLaw_25 : decode cX8_byLaw 25 = .ok (.getfield 56, 3) := dk_180 0 56 (dk_at dksX8_byLaw_1 1 rfl rfl)
theorem dX8_byLaw_28 : decode cX8_byLaw 28 = .ok (.iload 5, 2) := dk_21 5 (dk_at dksX8_byLaw_1 4 rfl rfl)
theorem dX8_byLaw_30 : decode cX8_byLaw 30 = .ok (.iaload, 1) := dk_46 (dk_at dksX8_byLaw_1 6 rfl rfl)
theorem dX8_byLaw_31 : decode cX8_byLaw 31 = .ok (.aload_n 0, 1) := dk_42 (dk_at dksX8_byLaw_1 7 rfl rfl)
theorem dX8_byLaw_32 : decode cX8_byLaw 32 = .ok (.getfield 59, 3) := dk_180 0 59 (dk_at dksX8_byLaw_1 8 rfl rfl)
theorem dX8_byLaw_35 : decode cX8_byLaw 35 = .ok (.iload 5, 2) := dk_21 5 (dk_at dksX8_byLaw_1 11 rfl rfl)
theorem dX8_byLaw_37 : decode cX8_byLaw 37 = .ok (.iaload, 1) := dk_46 (dk_at dksX8_byLaw_1 13 rfl rfl)
theorem dX8_byLaw_38 : decode cX8_byLaw 38 = .ok (.invokevirtual 253, 3) := dk_182 0 253 (dk_at dksX8_byLaw_1 14 rfl rfl)
theorem dX8_byLaw_41 : decode cX8_byLaw 41 = .ok (.iconst 1, 1) := dk_4 (dk_at dksX8_byLaw_1 17 rfl rfl)
theorem dX8_byLaw_42 : decode cX8_byLaw 42 = .ok (.if_icmp .eq 6, 3) := dk_159 0 6 (dk_at dksX8_byLaw_1 18 rfl rfl)
theorem dX8_byLaw_45 : decode cX8_byLaw 45 = .ok (.goto 46, 3) := dk_167 0 46 (dk_at dksX8_byLaw_1 21 rfl rfl)
theorem dX8_byLaw_48 : decode cX8_byLaw 48 = .ok (.aload_n 0, 1) := dk_42 (dk_at dksX8_byLaw_2 0 rfl rfl)
theorem dX8_byLaw_49 : decode cX8_byLaw 49 = .ok (.aload_n 0, 1) := dk_42 (dk_at dksX8_byLaw_2 1 rfl rfl)
theorem dX8_byLaw_50 : decode cX8_byLaw 50 = .ok (.getfield 53, 3) := dk_180 0 53 (dk_at dksX8_byLaw_2 2 rfl rfl)
theorem dX8_byLaw_53 : decode cX8_byLaw 53 = .ok (.iload 5, 2) := dk_21 5 (dk_at dksX8_byLaw_2 5 rfl rfl)
theorem dX8_byLaw_55 : decode cX8_byLaw 55 = .ok (.iaload, 1) := dk_46 (dk_at dksX8_byLaw_2 7 rfl rfl)
theorem dX8_byLaw_56 : decode cX8_byLaw 56 = .ok (.aload_n 0, 1) := dk_42 (dk_at dksX8_byLaw_2 8 rfl rfl)
theorem dX8_byLaw_57 : decode cX8_byLaw 57 = .ok (.getfield 56, 3) := dk_180 0 56 (dk_at dksX8_byLaw_2 9 rfl rfl)
theorem dX8_byLaw_60 : decode cX8_byLaw 60 = .ok (.iload 5, 2) := dk_21 5 (dk_at dksX8_byLaw_2 12 rfl rfl)
theorem dX8_byLaw_62 : decode cX8_byLaw 62 = .ok (.iaload, 1) := dk_46 (dk_at dksX8_byLaw_2 14 rfl rfl)
theorem dX8_byLaw_63 : decode cX8_byLaw 63 = .ok (.invokevirtual 253, 3) := dk_182 0 253 (dk_at dksX8_byLaw_2 15 rfl rfl)
theorem dX8_byLaw_66 : decode cX8_byLaw 66 = .ok (.istore 6, 2) := dk_54 6 (dk_at dksX8_byLaw_2 18 rfl rfl)
theorem dX8_byLaw_68 : decode cX8_byLaw 68 = .ok (.iload 6, 2) := dk_21 6 (dk_at dksX8_byLaw_2 20 rfl rfl)
theorem dX8_byLaw_70 : decode cX8_byLaw 70 = .ok (.iload_n 2, 1) := dk_28 (dk_at dksX8_byLaw_2 22 rfl rfl)
theorem dX8_byLaw_71 : decode cX8_byLaw 71 = .ok (.if_icmp .ge 7, 3) := dk_162 0 7 (dk_at dksX8_byLaw_3 0 rfl rfl)
theorem dX8_byLaw_74 : decode cX8_byLaw 74 = .ok (.iload_n 2, 1) := dk_28 (dk_at dksX8_byLaw_3 3 rfl rfl)
theorem dX8_byLaw_75 : decode cX8_byLaw 75 = .ok (.goto 15, 3) := dk_167 0 15 (dk_at dksX8_byLaw_3 4 rfl rfl)
theorem dX8_byLaw_78 : decode cX8_byLaw 78 = .ok (.iload 6, 2) := dk_21 6 (dk_at dksX8_byLaw_3 7 rfl rfl)
theorem dX8_byLaw_80 : decode cX8_byLaw 80 = .ok (.iload_n 3, 1) := dk_29 (dk_at dksX8_byLaw_3 9 rfl rfl)
theorem dX8_byLaw_81 : decode cX8_byLaw 81 = .ok (.if_icmp .le 7, 3) := dk_164 0 7 (dk_at dksX8_byLaw_3 10 rfl rfl)
theorem dX8_byLaw_84 : decode cX8_byLaw 84 = .ok (.iload_n 3, 1) := dk_29 (dk_at dksX8_byLaw_3 13 rfl rfl)
theorem dX8_byLaw_85 : decode cX8_byLaw 85 = .ok (.goto 5, 3) := dk_167 0 5 (dk_at dksX8_byLaw_3 14 rfl rfl)
theorem dX8_byLaw_88 : decode cX8_byLaw 88 = .ok (.iload 6, 2) := dk_21 6 (dk_at dksX8_byLaw_3 17 rfl rfl)
theorem dX8_byLaw_90 : decode cX8_byLaw 90 = .ok (.ireturn, 1) := dk_172 (dk_at dksX8_byLaw_3 19 rfl rfl)
theorem dX8_byLaw_91 : decode cX8_byLaw 91 = .ok (.iinc 5 1, 3) := dk_132 5 1 (dk_at dksX8_byLaw_3 20 rfl rfl)
theorem dX8_byLaw_94 : decode cX8_byLaw 94 = .ok (.goto (-91), 3) := dk_167 255 165 (dk_at dksX8_byLaw_4 0 rfl rfl)
theorem dX8_byLaw_97 : decode cX8_byLaw 97 = .ok (.iload 4, 2) := dk_21 4 (dk_at dksX8_byLaw_4 3 rfl rfl)
theorem dX8_byLaw_99 : decode cX8_byLaw 99 = .ok (.ireturn, 1) := dk_172 (dk_at dksX8_byLaw_4 5 rfl rfl)
abbrev cX8_reckonsTo : ByteArray := prog_18_method_52_code
def yX8_reckonsTo : MethodName := ⟨RX8, "reckonsTo", "(II)I"⟩
def dkwX8_reckonsTo_10 : List UInt8 := [3, 46, 172]
abbrev dktX8_reckonsTo_10 : List UInt8 := dkwX8_reckonsTo_10 ++ []
def dkwX8_reckonsTo_9 : List UInt8 := [180, 0, 62, 29, 4, 100, 46, 42, 180, 0, 62, 29, 46, 184, 0, 249, 79, 167, 255, 42, 42, 180, 0, 62]
abbrev dktX8_reckonsTo_9 : List UInt8 := dkwX8_reckonsTo_9 ++ dktX8_reckonsTo_10
def dkwX8_reckonsTo_8 : List UInt8 := [160, 0, 14, 42, 180, 0, 62, 29, 46, 154, 0, 5, 3, 172, 42, 180, 0, 62, 29, 4, 100, 21, 6, 42]
abbrev dktX8_reckonsTo_8 : List UInt8 := dkwX8_reckonsTo_8 ++ dktX8_reckonsTo_9
def dkwX8_reckonsTo_7 : List UInt8 := [167, 0, 65, 29, 4, 100, 62, 167, 0, 58, 29, 4, 100, 62, 21, 6, 8, 159, 0, 10, 21, 6, 16, 6]
abbrev dktX8_reckonsTo_7 : List UInt8 := dkwX8_reckonsTo_7 ++ dktX8_reckonsTo_8
def dkwX8_reckonsTo_6 : List UInt8 := [100, 46, 21, 6, 16, 12, 160, 0, 7, 4, 167, 0, 4, 3, 160, 0, 13, 21, 4, 21, 7, 96, 54, 5]
abbrev dktX8_reckonsTo_6 : List UInt8 := dkwX8_reckonsTo_6 ++ dktX8_reckonsTo_7
def dkwX8_reckonsTo_5 : List UInt8 := [79, 167, 0, 112, 21, 6, 16, 11, 159, 0, 10, 21, 6, 16, 12, 160, 0, 43, 42, 180, 0, 62, 29, 4]
abbrev dktX8_reckonsTo_5 : List UInt8 := dkwX8_reckonsTo_5 ++ dktX8_reckonsTo_6
def dkwX8_reckonsTo_4 : List UInt8 := [21, 6, 16, 10, 160, 0, 24, 42, 180, 0, 62, 29, 4, 100, 4, 42, 180, 0, 62, 29, 4, 100, 46, 100]
abbrev dktX8_reckonsTo_4 : List UInt8 := dkwX8_reckonsTo_4 ++ dktX8_reckonsTo_5
def dkwX8_reckonsTo_3 : List UInt8 := [154, 0, 8, 21, 7, 167, 0, 10, 42, 180, 0, 65, 21, 7, 46, 79, 29, 4, 96, 62, 167, 0, 140]
abbrev dktX8_reckonsTo_3 : List UInt8 := dkwX8_reckonsTo_3 ++ dktX8_reckonsTo_4
def dkwX8_reckonsTo_2 : List UInt8 := [21, 5, 4, 96, 54, 5, 21, 6, 153, 0, 9, 21, 6, 4, 160, 0, 33, 42, 180, 0, 62, 29, 21, 6]
abbrev dktX8_reckonsTo_2 : List UInt8 := dkwX8_reckonsTo_2 ++ dktX8_reckonsTo_3
def dkwX8_reckonsTo_1 : List UInt8 := [180, 0, 47, 21, 5, 46, 18, 181, 108, 54, 6, 42, 180, 0, 47, 21, 5, 46, 18, 181, 112, 54, 7]
abbrev dktX8_reckonsTo_1 : List UInt8 := dkwX8_reckonsTo_1 ++ dktX8_reckonsTo_2
def dkwX8_reckonsTo_0 : List UInt8 := [3, 62, 17, 1, 4, 27, 17, 1, 4, 108, 104, 54, 4, 27, 54, 5, 21, 5, 28, 162, 0, 214, 42]
abbrev dktX8_reckonsTo_0 : List UInt8 := dkwX8_reckonsTo_0 ++ dktX8_reckonsTo_1
theorem dksX8_reckonsTo_0 : cX8_reckonsTo.data.toList.drop 0 = dktX8_reckonsTo_0 := by decide +kernel
theorem dksX8_reckonsTo_1 : cX8_reckonsTo.data.toList.drop 23 = dktX8_reckonsTo_1 := dk_seg dksX8_reckonsTo_0 23 rfl rfl
theorem dksX8_reckonsTo_2 : cX8_reckonsTo.data.toList.drop 46 = dktX8_reckonsTo_2 := dk_seg dksX8_reckonsTo_1 23 rfl rfl
theorem dksX8_reckonsTo_3 : cX8_reckonsTo.data.toList.drop 70 = dktX8_reckonsTo_3 := dk_seg dksX8_reckonsTo_2 24 rfl rfl
theorem dksX8_reckonsTo_4 : cX8_reckonsTo.data.toList.drop 93 = dktX8_reckonsTo_4 := dk_seg dksX8_reckonsTo_3 23 rfl rfl
theorem dksX8_reckonsTo_5 : cX8_reckonsTo.data.toList.drop 117 = dktX8_reckonsTo_5 := dk_seg dksX8_reckonsTo_4 24 rfl rfl
theorem dksX8_reckonsTo_6 : cX8_reckonsTo.data.toList.drop 141 = dktX8_reckonsTo_6 := dk_seg dksX8_reckonsTo_5 24 rfl rfl
theorem dksX8_reckonsTo_7 : cX8_reckonsTo.data.toList.drop 165 = dktX8_reckonsTo_7 := dk_seg dksX8_reckonsTo_6 24 rfl rfl
theorem dksX8_reckonsTo_8 : cX8_reckonsTo.data.toList.drop 189 = dktX8_reckonsTo_8 := dk_seg dksX8_reckonsTo_7 24 rfl rfl
theorem dksX8_reckonsTo_9 : cX8_reckonsTo.data.toList.drop 213 = dktX8_reckonsTo_9 := dk_seg dksX8_reckonsTo_8 24 rfl rfl
theorem dksX8_reckonsTo_10 : cX8_reckonsTo.data.toList.drop 237 = dktX8_reckonsTo_10 := dk_seg dksX8_reckonsTo_9 24 rfl rfl
theorem dX8_reckonsTo_0 : decode cX8_reckonsTo 0 = .ok (.iconst 0, 1) := dk_3 (dk_at dksX8_reckonsTo_0 0 rfl rfl)
theorem dX8_reckonsTo_1 : decode cX8_reckonsTo 1 = .ok (.istore_n 3, 1) := dk_62 (dk_at dksX8_reckonsTo_0 1 rfl rfl)
theorem dX8_reckonsTo_2 : decode cX8_reckonsTo 2 = .ok (.sipush 260, 3) := dk_17 1 4 (dk_at dksX8_reckonsTo_0 2 rfl rfl)
theorem dX8_reckonsTo_5 : decode cX8_reckonsTo 5 = .ok (.iload_n 1, 1) := dk_27 (dk_at dksX8_reckonsTo_0 5 rfl rfl)
theorem dX8_reckonsTo_6 : decode cX8_reckonsTo 6 = .ok (.sipush 260, 3) := dk_17 1 4 (dk_at dksX8_reckonsTo_0 6 rfl rfl)
theorem dX8_reckonsTo_9 : decode cX8_reckonsTo 9 = .ok (.idiv, 1) := dk_108 (dk_at dksX8_reckonsTo_0 9 rfl rfl)
theorem dX8_reckonsTo_10 : decode cX8_reckonsTo 10 = .ok (.imul, 1) := dk_104 (dk_at dksX8_reckonsTo_0 10 rfl rfl)
theorem dX8_reckonsTo_11 : decode cX8_reckonsTo 11 = .ok (.istore 4, 2) := dk_54 4 (dk_at dksX8_reckonsTo_0 11 rfl rfl)
theorem dX8_reckonsTo_13 : decode cX8_reckonsTo 13 = .ok (.iload_n 1, 1) := dk_27 (dk_at dksX8_reckonsTo_0 13 rfl rfl)
theorem dX8_reckonsTo_14 : decode cX8_reckonsTo 14 = .ok (.istore 5, 2) := dk_54 5 (dk_at dksX8_reckonsTo_0 14 rfl rfl)
theorem dX8_reckonsTo_16 : decode cX8_reckonsTo 16 = .ok (.iload 5, 2) := dk_21 5 (dk_at dksX8_reckonsTo_0 16 rfl rfl)
theorem dX8_reckonsTo_18 : decode cX8_reckonsTo 18 = .ok (.iload_n 2, 1) := dk_28 (dk_at dksX8_reckonsTo_0 18 rfl rfl)
theorem dX8_reckonsTo_19 : decode cX8_reckonsTo 19 = .ok (.if_icmp .ge 214, 3) := dk_162 0 214 (dk_at dksX8_reckonsTo_0 19 rfl rfl)
theorem dX8_reckonsTo_22 : decode cX8_reckonsTo 22 = .ok (.aload_n 0, 1) := dk_42 (dk_at dksX8_reckonsTo_0 22 rfl rfl)
theorem dX8_reckonsTo_23 : decode cX8_reckonsTo 23 = .ok (.getfield 47, 3) := dk_180 0 47 (dk_at dksX8_reckonsTo_1 0 rfl rfl)
theorem dX8_reckonsTo_26 : decode cX8_reckonsTo 26 = .ok (.iload 5, 2) := dk_21 5 (dk_at dksX8_reckonsTo_1 3 rfl rfl)
theorem dX8_reckonsTo_28 : decode cX8_reckonsTo 28 = .ok (.iaload, 1) := dk_46 (dk_at dksX8_reckonsTo_1 5 rfl rfl)
theorem dX8_reckonsTo_29 : decode cX8_reckonsTo 29 = .ok (.ldc 181, 2) := dk_18 181 (dk_at dksX8_reckonsTo_1 6 rfl rfl)
theorem dX8_reckonsTo_31 : decode cX8_reckonsTo 31 = .ok (.idiv, 1) := dk_108 (dk_at dksX8_reckonsTo_1 8 rfl rfl)
theorem dX8_reckonsTo_32 : decode cX8_reckonsTo 32 = .ok (.istore 6, 2) := dk_54 6 (dk_at dksX8_reckonsTo_1 9 rfl rfl)
theorem dX8_reckonsTo_34 : decode cX8_reckonsTo 34 = .ok (.aload_n 0, 1) := dk_42 (dk_at dksX8_reckonsTo_1 11 rfl rfl)
theorem dX8_reckonsTo_35 : decode cX8_reckonsTo 35 = .ok (.getfield 47, 3) := dk_180 0 47 (dk_at dksX8_reckonsTo_1 12 rfl rfl)
theorem dX8_reckonsTo_38 : decode cX8_reckonsTo 38 = .ok (.iload 5, 2) := dk_21 5 (dk_at dksX8_reckonsTo_1 15 rfl rfl)
theorem dX8_reckonsTo_40 : decode cX8_reckonsTo 40 = .ok (.iaload, 1) := dk_46 (dk_at dksX8_reckonsTo_1 17 rfl rfl)
theorem dX8_reckonsTo_41 : decode cX8_reckonsTo 41 = .ok (.ldc 181, 2) := dk_18 181 (dk_at dksX8_reckonsTo_1 18 rfl rfl)
theorem dX8_reckonsTo_43 : decode cX8_reckonsTo 43 = .ok (.irem, 1) := dk_112 (dk_at dksX8_reckonsTo_1 20 rfl rfl)
theorem dX8_reckonsTo_44 : decode cX8_reckonsTo 44 = .ok (.istore 7, 2) := dk_54 7 (dk_at dksX8_reckonsTo_1 21 rfl rfl)
theorem dX8_reckonsTo_46 : decode cX8_reckonsTo 46 = .ok (.iload 5, 2) := dk_21 5 (dk_at dksX8_reckonsTo_2 0 rfl rfl)
theorem dX8_reckonsTo_48 : decode cX8_reckonsTo 48 = .ok (.iconst 1, 1) := dk_4 (dk_at dksX8_reckonsTo_2 2 rfl rfl)
theorem dX8_reckonsTo_49 : decode cX8_reckonsTo 49 = .ok (.iadd, 1) := dk_96 (dk_at dksX8_reckonsTo_2 3 rfl rfl)
theorem dX8_reckonsTo_50 : decode cX8_reckonsTo 50 = .ok (.istore 5, 2) := dk_54 5 (dk_at dksX8_reckonsTo_2 4 rfl rfl)
theorem dX8_reckonsTo_52 : decode cX8_reckonsTo 52 = .ok (.iload 6, 2) := dk_21 6 (dk_at dksX8_reckonsTo_2 6 rfl rfl)
theorem dX8_reckonsTo_54 : decode cX8_reckonsTo 54 = .ok (.ifCond .eq 9, 3) := dk_153 0 9 (dk_at dksX8_reckonsTo_2 8 rfl rfl)
theorem dX8_reckonsTo_57 : decode cX8_reckonsTo 57 = .ok (.iload 6, 2) := dk_21 6 (dk_at dksX8_reckonsTo_2 11 rfl rfl)
theorem dX8_reckonsTo_59 : decode cX8_reckonsTo 59 = .ok (.iconst 1, 1) := dk_4 (dk_at dksX8_reckonsTo_2 13 rfl rfl)
theorem dX8_reckonsTo_60 : decode cX8_reckonsTo 60 = .ok (.if_icmp .ne 33, 3) := dk_160 0 33 (dk_at dksX8_reckonsTo_2 14 rfl rfl)
theorem dX8_reckonsTo_63 : decode cX8_reckonsTo 63 = .ok (.aload_n 0, 1) := dk_42 (dk_at dksX8_reckonsTo_2 17 rfl rfl)
theorem dX8_reckonsTo_64 : decode cX8_reckonsTo 64 = .ok (.getfield 62, 3) := dk_180 0 62 (dk_at dksX8_reckonsTo_2 18 rfl rfl)
theorem dX8_reckonsTo_67 : decode cX8_reckonsTo 67 = .ok (.iload_n 3, 1) := dk_29 (dk_at dksX8_reckonsTo_2 21 rfl rfl)
theorem dX8_reckonsTo_68 : decode cX8_reckonsTo 68 = .ok (.iload 6, 2) := dk_21 6 (dk_at dksX8_reckonsTo_2 22 rfl rfl)
theorem dX8_reckonsTo_70 : decode cX8_reckonsTo 70 = .ok (.ifCond .ne 8, 3) := dk_154 0 8 (dk_at dksX8_reckonsTo_3 0 rfl rfl)
theorem dX8_reckonsTo_73 : decode cX8_reckonsTo 73 = .ok (.iload 7, 2) := dk_21 7 (dk_at dksX8_reckonsTo_3 3 rfl rfl)
theorem dX8_reckonsTo_75 : decode cX8_reckonsTo 75 = .ok (.goto 10, 3) := dk_167 0 10 (dk_at dksX8_reckonsTo_3 5 rfl rfl)
theorem dX8_reckonsTo_78 : decode cX8_reckonsTo 78 = .ok (.aload_n 0, 1) := dk_42 (dk_at dksX8_reckonsTo_3 8 rfl rfl)
theorem dX8_reckonsTo_79 : decode cX8_reckonsTo 79 = .ok (.getfield 65, 3) := dk_180 0 65 (dk_at dksX8_reckonsTo_3 9 rfl rfl)
theorem dX8_reckonsTo_82 : decode cX8_reckonsTo 82 = .ok (.iload 7, 2) := dk_21 7 (dk_at dksX8_reckonsTo_3 12 rfl rfl)
theorem dX8_reckonsTo_84 : decode cX8_reckonsTo 84 = .ok (.iaload, 1) := dk_46 (dk_at dksX8_reckonsTo_3 14 rfl rfl)
theorem dX8_reckonsTo_85 : decode cX8_reckonsTo 85 = .ok (.iastore, 1) := dk_79 (dk_at dksX8_reckonsTo_3 15 rfl rfl)
theorem dX8_reckonsTo_86 : decode cX8_reckonsTo 86 = .ok (.iload_n 3, 1) := dk_29 (dk_at dksX8_reckonsTo_3 16 rfl rfl)
theorem dX8_reckonsTo_87 : decode cX8_reckonsTo 87 = .ok (.iconst 1, 1) := dk_4 (dk_at dksX8_reckonsTo_3 17 rfl rfl)
theorem dX8_reckonsTo_88 : decode cX8_reckonsTo 88 = .ok (.iadd, 1) := dk_96 (dk_at dksX8_reckonsTo_3 18 rfl rfl)
theorem dX8_reckonsTo_89 : decode cX8_reckonsTo 89 = .ok (.istore_n 3, 1) := dk_62 (dk_at dksX8_reckonsTo_3 19 rfl rfl)
theorem dX8_reckonsTo_90 : decode cX8_reckonsTo 90 = .ok (.goto 140, 3) := dk_167 0 140 (dk_at dksX8_reckonsTo_3 20 rfl rfl)
theorem dX8_reckonsTo_93 : decode cX8_reckonsTo 93 = .ok (.iload 6, 2) := dk_21 6 (dk_at dksX8_reckonsTo_4 0 rfl rfl)
theorem dX8_reckonsTo_95 : decode cX8_reckonsTo 95 = .ok (.bipush 10, 2) := dk_16 10 (dk_at dksX8_reckonsTo_4 2 rfl rfl)
theorem dX8_reckonsTo_97 : decode cX8_reckonsTo 97 = .ok (.if_icmp .ne 24, 3) := dk_160 0 24 (dk_at dksX8_reckonsTo_4 4 rfl rfl)
theorem dX8_reckonsTo_100 : decode cX8_reckonsTo 100 = .ok (.aload_n 0, 1) := dk_42 (dk_at dksX8_reckonsTo_4 7 rfl rfl)
theorem dX8_reckonsTo_101 : decode cX8_reckonsTo 101 = .ok (.getfield 62, 3) := dk_180 0 62 (dk_at dksX8_reckonsTo_4 8 rfl rfl)
theorem dX8_reckonsTo_104 : decode cX8_reckonsTo 104 = .ok (.iload_n 3, 1) := dk_29 (dk_at dksX8_reckonsTo_4 11 rfl rfl)
theorem dX8_reckonsTo_105 : decode cX8_reckonsTo 105 = .ok (.iconst 1, 1) := dk_4 (dk_at dksX8_reckonsTo_4 12 rfl rfl)
theorem dX8_reckonsTo_106 : decode cX8_reckonsTo 106 = .ok (.isub, 1) := dk_100 (dk_at dksX8_reckonsTo_4 13 rfl rfl)
theorem dX8_reckonsTo_107 : decode cX8_reckonsTo 107 = .ok (.iconst 1, 1) := dk_4 (dk_at dksX8_reckonsTo_4 14 rfl rfl)
theorem dX8_reckonsTo_108 : decode cX8_reckonsTo 108 = .ok (.aload_n 0, 1) := dk_42 (dk_at dksX8_reckonsTo_4 15 rfl rfl)
theorem dX8_reckonsTo_109 : decode cX8_reckonsTo 109 = .ok (.getfield 62, 3) := dk_180 0 62 (dk_at dksX8_reckonsTo_4 16 rfl rfl)
theorem dX8_reckonsTo_112 : decode cX8_reckonsTo 112 = .ok (.iload_n 3, 1) := dk_29 (dk_at dksX8_reckonsTo_4 19 rfl rfl)
theorem dX8_reckonsTo_113 : decode cX8_reckonsTo 113 = .ok (.iconst 1, 1) := dk_4 (dk_at dksX8_reckonsTo_4 20 rfl rfl)
theorem dX8_reckonsTo_114 : decode cX8_reckonsTo 114 = .ok (.isub, 1) := dk_100 (dk_at dksX8_reckonsTo_4 21 rfl rfl)
theorem dX8_reckonsTo_115 : decode cX8_reckonsTo 115 = .ok (.iaload, 1) := dk_46 (dk_at dksX8_reckonsTo_4 22 rfl rfl)
theorem dX8_reckonsTo_116 : decode cX8_reckonsTo 116 = .ok (.isub, 1) := dk_100 (dk_at dksX8_reckonsTo_4 23 rfl rfl)
theorem dX8_reckonsTo_117 : decode cX8_reckonsTo 117 = .ok (.iastore, 1) := dk_79 (dk_at dksX8_reckonsTo_5 0 rfl rfl)
theorem dX8_reckonsTo_118 : decode cX8_reckonsTo 118 = .ok (.goto 112, 3) := dk_167 0 112 (dk_at dksX8_reckonsTo_5 1 rfl rfl)
theorem dX8_reckonsTo_121 : decode cX8_reckonsTo 121 = .ok (.iload 6, 2) := dk_21 6 (dk_at dksX8_reckonsTo_5 4 rfl rfl)
theorem dX8_reckonsTo_123 : decode cX8_reckonsTo 123 = .ok (.bipush 11, 2) := dk_16 11 (dk_at dksX8_reckonsTo_5 6 rfl rfl)
theorem dX8_reckonsTo_125 : decode cX8_reckonsTo 125 = .ok (.if_icmp .eq 10, 3) := dk_159 0 10 (dk_at dksX8_reckonsTo_5 8 rfl rfl)
theorem dX8_reckonsTo_128 : decode cX8_reckonsTo 128 = .ok (.iload 6, 2) := dk_21 6 (dk_at dksX8_reckonsTo_5 11 rfl rfl)
theorem dX8_reckonsTo_130 : decode cX8_reckonsTo 130 = .ok (.bipush 12, 2) := dk_16 12 (dk_at dksX8_reckonsTo_5 13 rfl rfl)
theorem dX8_reckonsTo_132 : decode cX8_reckonsTo 132 = .ok (.if_icmp .ne 43, 3) := dk_160 0 43 (dk_at dksX8_reckonsTo_5 15 rfl rfl)
theorem dX8_reckonsTo_135 : decode cX8_reckonsTo 135 = .ok (.aload_n 0, 1) := dk_42 (dk_at dksX8_reckonsTo_5 18 rfl rfl)
theorem dX8_reckonsTo_136 : decode cX8_reckonsTo 136 = .ok (.getfield 62, 3) := dk_180 0 62 (dk_at dksX8_reckonsTo_5 19 rfl rfl)
theorem dX8_reckonsTo_139 : decode cX8_reckonsTo 139 = .ok (.iload_n 3, 1) := dk_29 (dk_at dksX8_reckonsTo_5 22 rfl rfl)
theorem dX8_reckonsTo_140 : decode cX8_reckonsTo 140 = .ok (.iconst 1, 1) := dk_4 (dk_at dksX8_reckonsTo_5 23 rfl rfl)
theorem dX8_reckonsTo_141 : decode cX8_reckonsTo 141 = .ok (.isub, 1) := dk_100 (dk_at dksX8_reckonsTo_6 0 rfl rfl)
theorem dX8_reckonsTo_142 : decode cX8_reckonsTo 142 = .ok (.iaload, 1) := dk_46 (dk_at dksX8_reckonsTo_6 1 rfl rfl)
theorem dX8_reckonsTo_143 : decode cX8_reckonsTo 143 = .ok (.iload 6, 2) := dk_21 6 (dk_at dksX8_reckonsTo_6 2 rfl rfl)
theorem dX8_reckonsTo_145 : decode cX8_reckonsTo 145 = .ok (.bipush 12, 2) := dk_16 12 (dk_at dksX8_reckonsTo_6 4 rfl rfl)
theorem dX8_reckonsTo_147 : decode cX8_reckonsTo 147 = .ok (.if_icmp .ne 7, 3) := dk_160 0 7 (dk_at dksX8_reckonsTo_6 6 rfl rfl)
theorem dX8_reckonsTo_150 : decode cX8_reckonsTo 150 = .ok (.iconst 1, 1) := dk_4 (dk_at dksX8_reckonsTo_6 9 rfl rfl)
theorem dX8_reckonsTo_151 : decode cX8_reckonsTo 151 = .ok (.goto 4, 3) := dk_167 0 4 (dk_at dksX8_reckonsTo_6 10 rfl rfl)
theorem dX8_reckonsTo_154 : decode cX8_reckonsTo 154 = .ok (.iconst 0, 1) := dk_3 (dk_at dksX8_reckonsTo_6 13 rfl rfl)
theorem dX8_reckonsTo_155 : decode cX8_reckonsTo 155 = .ok (.if_icmp .ne 13, 3) := dk_160 0 13 (dk_at dksX8_reckonsTo_6 14 rfl rfl)
theorem dX8_reckonsTo_158 : decode cX8_reckonsTo 158 = .ok (.iload 4, 2) := dk_21 4 (dk_at dksX8_reckonsTo_6 17 rfl rfl)
theorem dX8_reckonsTo_160 : decode cX8_reckonsTo 160 = .ok (.iload 7, 2) := dk_21 7 (dk_at dksX8_reckonsTo_6 19 rfl rfl)
theorem dX8_reckonsTo_162 : decode cX8_reckonsTo 162 = .ok (.iadd, 1) := dk_96 (dk_at dksX8_reckonsTo_6 21 rfl rfl)
theorem dX8_reckonsTo_163 : decode cX8_reckonsTo 163 = .ok (.istore 5, 2) := dk_54 5 (dk_at dksX8_reckonsTo_6 22 rfl rfl)
theorem dX8_reckonsTo_165 : decode cX8_reckonsTo 165 = .ok (.goto 65, 3) := dk_167 0 65 (dk_at dksX8_reckonsTo_7 0 rfl rfl)
theorem dX8_reckonsTo_168 : decode cX8_reckonsTo 168 = .ok (.iload_n 3, 1) := dk_29 (dk_at dksX8_reckonsTo_7 3 rfl rfl)
theorem dX8_reckonsTo_169 : decode cX8_reckonsTo 169 = .ok (.iconst 1, 1) := dk_4 (dk_at dksX8_reckonsTo_7 4 rfl rfl)
theorem dX8_reckonsTo_170 : decode cX8_reckonsTo 170 = .ok (.isub, 1) := dk_100 (dk_at dksX8_reckonsTo_7 5 rfl rfl)
theorem dX8_reckonsTo_171 : decode cX8_reckonsTo 171 = .ok (.istore_n 3, 1) := dk_62 (dk_at dksX8_reckonsTo_7 6 rfl rfl)
theorem dX8_reckonsTo_172 : decode cX8_reckonsTo 172 = .ok (.goto 58, 3) := dk_167 0 58 (dk_at dksX8_reckonsTo_7 7 rfl rfl)
theorem dX8_reckonsTo_175 : decode cX8_reckonsTo 175 = .ok (.iload_n 3, 1) := dk_29 (dk_at dksX8_reckonsTo_7 10 rfl rfl)
theorem dX8_reckonsTo_176 : decode cX8_reckonsTo 176 = .ok (.iconst 1, 1) := dk_4 (dk_at dksX8_reckonsTo_7 11 rfl rfl)
theorem dX8_reckonsTo_177 : decode cX8_reckonsTo 177 = .ok (.isub, 1) := dk_100 (dk_at dksX8_reckonsTo_7 12 rfl rfl)
theorem dX8_reckonsTo_178 : decode cX8_reckonsTo 178 = .ok (.istore_n 3, 1) := dk_62 (dk_at dksX8_reckonsTo_7 13 rfl rfl)
theorem dX8_reckonsTo_179 : decode cX8_reckonsTo 179 = .ok (.iload 6, 2) := dk_21 6 (dk_at dksX8_reckonsTo_7 14 rfl rfl)
theorem dX8_reckonsTo_181 : decode cX8_reckonsTo 181 = .ok (.iconst 5, 1) := dk_8 (dk_at dksX8_reckonsTo_7 16 rfl rfl)
theorem dX8_reckonsTo_182 : decode cX8_reckonsTo 182 = .ok (.if_icmp .eq 10, 3) := dk_159 0 10 (dk_at dksX8_reckonsTo_7 17 rfl rfl)
theorem dX8_reckonsTo_185 : decode cX8_reckonsTo 185 = .ok (.iload 6, 2) := dk_21 6 (dk_at dksX8_reckonsTo_7 20 rfl rfl)
theorem dX8_reckonsTo_187 : decode cX8_reckonsTo 187 = .ok (.bipush 6, 2) := dk_16 6 (dk_at dksX8_reckonsTo_7 22 rfl rfl)
theorem dX8_reckonsTo_189 : decode cX8_reckonsTo 189 = .ok (.if_icmp .ne 14, 3) := dk_160 0 14 (dk_at dksX8_reckonsTo_8 0 rfl rfl)
theorem dX8_reckonsTo_192 : decode cX8_reckonsTo 192 = .ok (.aload_n 0, 1) := dk_42 (dk_at dksX8_reckonsTo_8 3 rfl rfl)
theorem dX8_reckonsTo_193 : decode cX8_reckonsTo 193 = .ok (.getfield 62, 3) := dk_180 0 62 (dk_at dksX8_reckonsTo_8 4 rfl rfl)
theorem dX8_reckonsTo_196 : decode cX8_reckonsTo 196 = .ok (.iload_n 3, 1) := dk_29 (dk_at dksX8_reckonsTo_8 7 rfl rfl)
theorem dX8_reckonsTo_197 : decode cX8_reckonsTo 197 = .ok (.iaload, 1) := dk_46 (dk_at dksX8_reckonsTo_8 8 rfl rfl)
theorem dX8_reckonsTo_198 : decode cX8_reckonsTo 198 = .ok (.ifCond .ne 5, 3) := dk_154 0 5 (dk_at dksX8_reckonsTo_8 9 rfl rfl)
theorem dX8_reckonsTo_201 : decode cX8_reckonsTo 201 = .ok (.iconst 0, 1) := dk_3 (dk_at dksX8_reckonsTo_8 12 rfl rfl)
theorem dX8_reckonsTo_202 : decode cX8_reckonsTo 202 = .ok (.ireturn, 1) := dk_172 (dk_at dksX8_reckonsTo_8 13 rfl rfl)
theorem dX8_reckonsTo_203 : decode cX8_reckonsTo 203 = .ok (.aload_n 0, 1) := dk_42 (dk_at dksX8_reckonsTo_8 14 rfl rfl)
theorem dX8_reckonsTo_204 : decode cX8_reckonsTo 204 = .ok (.getfield 62, 3) := dk_180 0 62 (dk_at dksX8_reckonsTo_8 15 rfl rfl)
theorem dX8_reckonsTo_207 : decode cX8_reckonsTo 207 = .ok (.iload_n 3, 1) := dk_29 (dk_at dksX8_reckonsTo_8 18 rfl rfl)
theorem dX8_reckonsTo_208 : decode cX8_reckonsTo 208 = .ok (.iconst 1, 1) := dk_4 (dk_at dksX8_reckonsTo_8 19 rfl rfl)
theorem dX8_reckonsTo_209 : decode cX8_reckonsTo 209 = .ok (.isub, 1) := dk_100 (dk_at dksX8_reckonsTo_8 20 rfl rfl)
theorem dX8_reckonsTo_210 : decode cX8_reckonsTo 210 = .ok (.iload 6, 2) := dk_21 6 (dk_at dksX8_reckonsTo_8 21 rfl rfl)
theorem dX8_reckonsTo_212 : decode cX8_reckonsTo 212 = .ok (.aload_n 0, 1) := dk_42 (dk_at dksX8_reckonsTo_8 23 rfl rfl)
theorem dX8_reckonsTo_213 : decode cX8_reckonsTo 213 = .ok (.getfield 62, 3) := dk_180 0 62 (dk_at dksX8_reckonsTo_9 0 rfl rfl)
theorem dX8_reckonsTo_216 : decode cX8_reckonsTo 216 = .ok (.iload_n 3, 1) := dk_29 (dk_at dksX8_reckonsTo_9 3 rfl rfl)
theorem dX8_reckonsTo_217 : decode cX8_reckonsTo 217 = .ok (.iconst 1, 1) := dk_4 (dk_at dksX8_reckonsTo_9 4 rfl rfl)
theorem dX8_reckonsTo_218 : decode cX8_reckonsTo 218 = .ok (.isub, 1) := dk_100 (dk_at dksX8_reckonsTo_9 5 rfl rfl)
theorem dX8_reckonsTo_219 : decode cX8_reckonsTo 219 = .ok (.iaload, 1) := dk_46 (dk_at dksX8_reckonsTo_9 6 rfl rfl)
theorem dX8_reckonsTo_220 : decode cX8_reckonsTo 220 = .ok (.aload_n 0, 1) := dk_42 (dk_at dksX8_reckonsTo_9 7 rfl rfl)
theorem dX8_reckonsTo_221 : decode cX8_reckonsTo 221 = .ok (.getfield 62, 3) := dk_180 0 62 (dk_at dksX8_reckonsTo_9 8 rfl rfl)
theorem dX8_reckonsTo_224 : decode cX8_reckonsTo 224 = .ok (.iload_n 3, 1) := dk_29 (dk_at dksX8_reckonsTo_9 11 rfl rfl)
theorem dX8_reckonsTo_225 : decode cX8_reckonsTo 225 = .ok (.iaload, 1) := dk_46 (dk_at dksX8_reckonsTo_9 12 rfl rfl)
theorem dX8_reckonsTo_226 : decode cX8_reckonsTo 226 = .ok (.invokestatic 249, 3) := dk_184 0 249 (dk_at dksX8_reckonsTo_9 13 rfl rfl)
theorem dX8_reckonsTo_229 : decode cX8_reckonsTo 229 = .ok (.iastore, 1) := dk_79 (dk_at dksX8_reckonsTo_9 16 rfl rfl)
theorem dX8_reckonsTo_230 : decode cX8_reckonsTo 230 = .ok (.goto (-214), 3) := dk_167 255 42 (dk_at dksX8_reckonsTo_9 17 rfl rfl)
theorem dX8_reckonsTo_233 : decode cX8_reckonsTo 233 = .ok (.aload_n 0, 1) := dk_42 (dk_at dksX8_reckonsTo_9 20 rfl rfl)
theorem dX8_reckonsTo_234 : decode cX8_reckonsTo 234 = .ok (.getfield 62, 3) := dk_180 0 62 (dk_at dksX8_reckonsTo_9 21 rfl rfl)
theorem dX8_reckonsTo_237 : decode cX8_reckonsTo 237 = .ok (.iconst 0, 1) := dk_3 (dk_at dksX8_reckonsTo_10 0 rfl rfl)
theorem dX8_reckonsTo_238 : decode cX8_reckonsTo 238 = .ok (.iaload, 1) := dk_46 (dk_at dksX8_reckonsTo_10 1 rfl rfl)
theorem dX8_reckonsTo_239 : decode cX8_reckonsTo 239 = .ok (.ireturn, 1) := dk_172 (dk_at dksX8_reckonsTo_10 2 rfl rfl)
abbrev cX8_reckon : ByteArray := prog_18_method_51_code
def yX8_reckon : MethodName := ⟨RX8, "reckon", "(III)I"⟩
def dkwX8_reckon_4 : List UInt8 := [160, 0, 7, 4, 167, 0, 4, 3, 172]
abbrev dktX8_reckon_4 : List UInt8 := dkwX8_reckon_4 ++ []
def dkwX8_reckon_3 : List UInt8 := [162, 0, 7, 4, 167, 0, 4, 3, 172, 27, 28, 164, 0, 7, 4, 167, 0, 4, 3, 172, 27, 28]
abbrev dktX8_reckon_3 : List UInt8 := dkwX8_reckon_3 ++ dktX8_reckon_4
def dkwX8_reckon_2 : List UInt8 := [27, 28, 96, 172, 27, 28, 100, 172, 27, 28, 104, 172, 27, 28, 108, 172, 27, 28, 112, 172, 27, 28]
abbrev dktX8_reckon_2 : List UInt8 := dkwX8_reckon_2 ++ dktX8_reckon_3
def dkwX8_reckon_1 : List UInt8 := [170, 0, 0, 0, 0, 0, 85, 0, 0, 0, 2, 0, 0, 0, 8, 0, 0, 0, 43, 0, 0, 0, 47, 0, 0, 0, 51, 0, 0, 0, 55, 0, 0, 0, 59, 0, 0, 0, 63, 0, 0, 0, 74]
abbrev dktX8_reckon_1 : List UInt8 := dkwX8_reckon_1 ++ dktX8_reckon_2
def dkwX8_reckon_0 : List UInt8 := [26]
abbrev dktX8_reckon_0 : List UInt8 := dkwX8_reckon_0 ++ dktX8_reckon_1
theorem dksX8_reckon_0 : cX8_reckon.data.toList.drop 0 = dktX8_reckon_0 := by decide +kernel
theorem dksX8_reckon_1 : cX8_reckon.data.toList.drop 1 = dktX8_reckon_1 := dk_seg dksX8_reckon_0 1 rfl rfl
theorem dksX8_reckon_2 : cX8_reckon.data.toList.drop 44 = dktX8_reckon_2 := dk_seg dksX8_reckon_1 43 rfl rfl
theorem dksX8_reckon_3 : cX8_reckon.data.toList.drop 66 = dktX8_reckon_3 := dk_seg dksX8_reckon_2 22 rfl rfl
theorem dksX8_reckon_4 : cX8_reckon.data.toList.drop 88 = dktX8_reckon_4 := dk_seg dksX8_reckon_3 22 rfl rfl
theorem dX8_reckon_0 : decode cX8_reckon 0 = .ok (.iload_n 0, 1) := dk_26 (dk_at dksX8_reckon_0 0 rfl rfl)
theorem dX8_reckon_1 : decode cX8_reckon 1 = .ok (.tableswitch 85 2 8 #[43, 47, 51, 55, 59, 63, 74], 43) := by decide +kernel
theorem dX8_reckon_44 : decode cX8_reckon 44 = .ok (.iload_n 1, 1) := dk_27 (dk_at dksX8_reckon_2 0 rfl rfl)
theorem dX8_reckon_45 : decode cX8_reckon 45 = .ok (.iload_n 2, 1) := dk_28 (dk_at dksX8_reckon_2 1 rfl rfl)
theorem dX8_reckon_46 : decode cX8_reckon 46 = .ok (.iadd, 1) := dk_96 (dk_at dksX8_reckon_2 2 rfl rfl)
theorem dX8_reckon_47 : decode cX8_reckon 47 = .ok (.ireturn, 1) := dk_172 (dk_at dksX8_reckon_2 3 rfl rfl)
theorem dX8_reckon_48 : decode cX8_reckon 48 = .ok (.iload_n 1, 1) := dk_27 (dk_at dksX8_reckon_2 4 rfl rfl)
theorem dX8_reckon_49 : decode cX8_reckon 49 = .ok (.iload_n 2, 1) := dk_28 (dk_at dksX8_reckon_2 5 rfl rfl)
theorem dX8_reckon_50 : decode cX8_reckon 50 = .ok (.isub, 1) := dk_100 (dk_at dksX8_reckon_2 6 rfl rfl)
theorem dX8_reckon_51 : decode cX8_reckon 51 = .ok (.ireturn, 1) := dk_172 (dk_at dksX8_reckon_2 7 rfl rfl)
theorem dX8_reckon_52 : decode cX8_reckon 52 = .ok (.iload_n 1, 1) := dk_27 (dk_at dksX8_reckon_2 8 rfl rfl)
theorem dX8_reckon_53 : decode cX8_reckon 53 = .ok (.iload_n 2, 1) := dk_28 (dk_at dksX8_reckon_2 9 rfl rfl)
theorem dX8_reckon_54 : decode cX8_reckon 54 = .ok (.imul, 1) := dk_104 (dk_at dksX8_reckon_2 10 rfl rfl)
theorem dX8_reckon_55 : decode cX8_reckon 55 = .ok (.ireturn, 1) := dk_172 (dk_at dksX8_reckon_2 11 rfl rfl)
theorem dX8_reckon_56 : decode cX8_reckon 56 = .ok (.iload_n 1, 1) := dk_27 (dk_at dksX8_reckon_2 12 rfl rfl)
theorem dX8_reckon_57 : decode cX8_reckon 57 = .ok (.iload_n 2, 1) := dk_28 (dk_at dksX8_reckon_2 13 rfl rfl)
theorem dX8_reckon_58 : decode cX8_reckon 58 = .ok (.idiv, 1) := dk_108 (dk_at dksX8_reckon_2 14 rfl rfl)
theorem dX8_reckon_59 : decode cX8_reckon 59 = .ok (.ireturn, 1) := dk_172 (dk_at dksX8_reckon_2 15 rfl rfl)
theorem dX8_reckon_60 : decode cX8_reckon 60 = .ok (.iload_n 1, 1) := dk_27 (dk_at dksX8_reckon_2 16 rfl rfl)
theorem dX8_reckon_61 : decode cX8_reckon 61 = .ok (.iload_n 2, 1) := dk_28 (dk_at dksX8_reckon_2 17 rfl rfl)
theorem dX8_reckon_62 : decode cX8_reckon 62 = .ok (.irem, 1) := dk_112 (dk_at dksX8_reckon_2 18 rfl rfl)
theorem dX8_reckon_63 : decode cX8_reckon 63 = .ok (.ireturn, 1) := dk_172 (dk_at dksX8_reckon_2 19 rfl rfl)
theorem dX8_reckon_64 : decode cX8_reckon 64 = .ok (.iload_n 1, 1) := dk_27 (dk_at dksX8_reckon_2 20 rfl rfl)
theorem dX8_reckon_65 : decode cX8_reckon 65 = .ok (.iload_n 2, 1) := dk_28 (dk_at dksX8_reckon_2 21 rfl rfl)
theorem dX8_reckon_66 : decode cX8_reckon 66 = .ok (.if_icmp .ge 7, 3) := dk_162 0 7 (dk_at dksX8_reckon_3 0 rfl rfl)
theorem dX8_reckon_69 : decode cX8_reckon 69 = .ok (.iconst 1, 1) := dk_4 (dk_at dksX8_reckon_3 3 rfl rfl)
theorem dX8_reckon_70 : decode cX8_reckon 70 = .ok (.goto 4, 3) := dk_167 0 4 (dk_at dksX8_reckon_3 4 rfl rfl)
theorem dX8_reckon_73 : decode cX8_reckon 73 = .ok (.iconst 0, 1) := dk_3 (dk_at dksX8_reckon_3 7 rfl rfl)
theorem dX8_reckon_74 : decode cX8_reckon 74 = .ok (.ireturn, 1) := dk_172 (dk_at dksX8_reckon_3 8 rfl rfl)
theorem dX8_reckon_75 : decode cX8_reckon 75 = .ok (.iload_n 1, 1) := dk_27 (dk_at dksX8_reckon_3 9 rfl rfl)
theorem dX8_reckon_76 : decode cX8_reckon 76 = .ok (.iload_n 2, 1) := dk_28 (dk_at dksX8_reckon_3 10 rfl rfl)
theorem dX8_reckon_77 : decode cX8_reckon 77 = .ok (.if_icmp .le 7, 3) := dk_164 0 7 (dk_at dksX8_reckon_3 11 rfl rfl)
theorem dX8_reckon_80 : decode cX8_reckon 80 = .ok (.iconst 1, 1) := dk_4 (dk_at dksX8_reckon_3 14 rfl rfl)
theorem dX8_reckon_81 : decode cX8_reckon 81 = .ok (.goto 4, 3) := dk_167 0 4 (dk_at dksX8_reckon_3 15 rfl rfl)
theorem dX8_reckon_84 : decode cX8_reckon 84 = .ok (.iconst 0, 1) := dk_3 (dk_at dksX8_reckon_3 18 rfl rfl)
theorem dX8_reckon_85 : decode cX8_reckon 85 = .ok (.ireturn, 1) := dk_172 (dk_at dksX8_reckon_3 19 rfl rfl)
theorem dX8_reckon_86 : decode cX8_reckon 86 = .ok (.iload_n 1, 1) := dk_27 (dk_at dksX8_reckon_3 20 rfl rfl)
theorem dX8_reckon_87 : decode cX8_reckon 87 = .ok (.iload_n 2, 1) := dk_28 (dk_at dksX8_reckon_3 21 rfl rfl)
theorem dX8_reckon_88 : decode cX8_reckon 88 = .ok (.if_icmp .ne 7, 3) := dk_160 0 7 (dk_at dksX8_reckon_4 0 rfl rfl)
theorem dX8_reckon_91 : decode cX8_reckon 91 = .ok (.iconst 1, 1) := dk_4 (dk_at dksX8_reckon_4 3 rfl rfl)
theorem dX8_reckon_92 : decode cX8_reckon 92 = .ok (.goto 4, 3) := dk_167 0 4 (dk_at dksX8_reckon_4 4 rfl rfl)
theorem dX8_reckon_95 : decode cX8_reckon 95 = .ok (.iconst 0, 1) := dk_3 (dk_at dksX8_reckon_4 7 rfl rfl)
theorem dX8_reckon_96 : decode cX8_reckon 96 = .ok (.ireturn, 1) := dk_172 (dk_at dksX8_reckon_4 8 rfl rfl)
abbrev cX8_feed : ByteArray := prog_18_method_27_code
def yX8_feed : MethodName := ⟨RX8, "feed", "(IIIII)I"⟩
def dkwX8_feed_2 : List UInt8 := [172]
abbrev dktX8_feed_2 : List UInt8 := dkwX8_feed_2 ++ []
def dkwX8_feed_1 : List UInt8 := [182, 0, 151, 42, 29, 182, 0, 151, 42, 21, 4, 182, 0, 151, 42, 21, 5, 182, 0, 151, 42, 180, 0, 147]
abbrev dktX8_feed_1 : List UInt8 := dkwX8_feed_1 ++ dktX8_feed_2
def dkwX8_feed_0 : List UInt8 := [42, 180, 0, 147, 16, 20, 96, 17, 1, 4, 164, 0, 5, 2, 172, 42, 27, 182, 0, 151, 42, 28]
abbrev dktX8_feed_0 : List UInt8 := dkwX8_feed_0 ++ dktX8_feed_1
theorem dksX8_feed_0 : cX8_feed.data.toList.drop 0 = dktX8_feed_0 := by decide +kernel
theorem dksX8_feed_1 : cX8_feed.data.toList.drop 22 = dktX8_feed_1 := dk_seg dksX8_feed_0 22 rfl rfl
theorem dksX8_feed_2 : cX8_feed.data.toList.drop 46 = dktX8_feed_2 := dk_seg dksX8_feed_1 24 rfl rfl
theorem dX8_feed_0 : decode cX8_feed 0 = .ok (.aload_n 0, 1) := dk_42 (dk_at dksX8_feed_0 0 rfl rfl)
theorem dX8_feed_1 : decode cX8_feed 1 = .ok (.getfield 147, 3) := dk_180 0 147 (dk_at dksX8_feed_0 1 rfl rfl)
theorem dX8_feed_4 : decode cX8_feed 4 = .ok (.bipush 20, 2) := dk_16 20 (dk_at dksX8_feed_0 4 rfl rfl)
theorem dX8_feed_6 : decode cX8_feed 6 = .ok (.iadd, 1) := dk_96 (dk_at dksX8_feed_0 6 rfl rfl)
theorem dX8_feed_7 : decode cX8_feed 7 = .ok (.sipush 260, 3) := dk_17 1 4 (dk_at dksX8_feed_0 7 rfl rfl)
theorem dX8_feed_10 : decode cX8_feed 10 = .ok (.if_icmp .le 5, 3) := dk_164 0 5 (dk_at dksX8_feed_0 10 rfl rfl)
theorem dX8_feed_13 : decode cX8_feed 13 = .ok (.iconst (-1), 1) := dk_2 (dk_at dksX8_feed_0 13 rfl rfl)
theorem dX8_feed_14 : decode cX8_feed 14 = .ok (.ireturn, 1) := dk_172 (dk_at dksX8_feed_0 14 rfl rfl)
theorem dX8_feed_15 : decode cX8_feed 15 = .ok (.aload_n 0, 1) := dk_42 (dk_at dksX8_feed_0 15 rfl rfl)
theorem dX8_feed_16 : decode cX8_feed 16 = .ok (.iload_n 1, 1) := dk_27 (dk_at dksX8_feed_0 16 rfl rfl)
theorem dX8_feed_17 : decode cX8_feed 17 = .ok (.invokevirtual 151, 3) := dk_182 0 151 (dk_at dksX8_feed_0 17 rfl rfl)
theorem dX8_feed_20 : decode cX8_feed 20 = .ok (.aload_n 0, 1) := dk_42 (dk_at dksX8_feed_0 20 rfl rfl)
theorem dX8_feed_21 : decode cX8_feed 21 = .ok (.iload_n 2, 1) := dk_28 (dk_at dksX8_feed_0 21 rfl rfl)
theorem dX8_feed_22 : decode cX8_feed 22 = .ok (.invokevirtual 151, 3) := dk_182 0 151 (dk_at dksX8_feed_1 0 rfl rfl)
theorem dX8_feed_25 : decode cX8_feed 25 = .ok (.aload_n 0, 1) := dk_42 (dk_at dksX8_feed_1 3 rfl rfl)
theorem dX8_feed_26 : decode cX8_feed 26 = .ok (.iload_n 3, 1) := dk_29 (dk_at dksX8_feed_1 4 rfl rfl)
theorem dX8_feed_27 : decode cX8_feed 27 = .ok (.invokevirtual 151, 3) := dk_182 0 151 (dk_at dksX8_feed_1 5 rfl rfl)
theorem dX8_feed_30 : decode cX8_feed 30 = .ok (.aload_n 0, 1) := dk_42 (dk_at dksX8_feed_1 8 rfl rfl)
theorem dX8_feed_31 : decode cX8_feed 31 = .ok (.iload 4, 2) := dk_21 4 (dk_at dksX8_feed_1 9 rfl rfl)
theorem dX8_feed_33 : decode cX8_feed 33 = .ok (.invokevirtual 151, 3) := dk_182 0 151 (dk_at dksX8_feed_1 11 rfl rfl)
theorem dX8_feed_36 : decode cX8_feed 36 = .ok (.aload_n 0, 1) := dk_42 (dk_at dksX8_feed_1 14 rfl rfl)
theorem dX8_feed_37 : decode cX8_feed 37 = .ok (.iload 5, 2) := dk_21 5 (dk_at dksX8_feed_1 15 rfl rfl)
theorem dX8_feed_39 : decode cX8_feed 39 = .ok (.invokevirtual 151, 3) := dk_182 0 151 (dk_at dksX8_feed_1 17 rfl rfl)
theorem dX8_feed_42 : decode cX8_feed 42 = .ok (.aload_n 0, 1) := dk_42 (dk_at dksX8_feed_1 20 rfl rfl)
theorem dX8_feed_43 : decode cX8_feed 43 = .ok (.getfield 147, 3) := dk_180 0 147 (dk_at dksX8_feed_1 21 rfl rfl)
theorem dX8_feed_46 : decode cX8_feed 46 = .ok (.ireturn, 1) := dk_172 (dk_at dksX8_feed_2 0 rfl rfl)
abbrev cX8_types : ByteArray := prog_18_method_26_code
def yX8_types : MethodName := ⟨RX8, "types", "(I)V"⟩
def dkwX8_types_1 : List UInt8 := [180, 0, 147, 4, 96, 181, 0, 147, 132, 2, 255, 167, 255, 223, 177]
abbrev dktX8_types_1 : List UInt8 := dkwX8_types_1 ++ []
def dkwX8_types_0 : List UInt8 := [6, 61, 28, 155, 0, 35, 42, 180, 0, 25, 42, 180, 0, 147, 27, 16, 8, 28, 104, 122, 145, 84, 42, 42]
abbrev dktX8_types_0 : List UInt8 := dkwX8_types_0 ++ dktX8_types_1
theorem dksX8_types_0 : cX8_types.data.toList.drop 0 = dktX8_types_0 := by decide +kernel
theorem dksX8_types_1 : cX8_types.data.toList.drop 24 = dktX8_types_1 := dk_seg dksX8_types_0 24 rfl rfl
theorem dX8_types_0 : decode cX8_types 0 = .ok (.iconst 3, 1) := dk_6 (dk_at dksX8_types_0 0 rfl rfl)
theorem dX8_types_1 : decode cX8_types 1 = .ok (.istore_n 2, 1) := dk_61 (dk_at dksX8_types_0 1 rfl rfl)
theorem dX8_types_2 : decode cX8_types 2 = .ok (.iload_n 2, 1) := dk_28 (dk_at dksX8_types_0 2 rfl rfl)
theorem dX8_types_3 : decode cX8_types 3 = .ok (.ifCond .lt 35, 3) := dk_155 0 35 (dk_at dksX8_types_0 3 rfl rfl)
theorem dX8_types_6 : decode cX8_types 6 = .ok (.aload_n 0, 1) := dk_42 (dk_at dksX8_types_0 6 rfl rfl)
theorem dX8_types_7 : decode cX8_types 7 = .ok (.getfield 25, 3) := dk_180 0 25 (dk_at dksX8_types_0 7 rfl rfl)
theorem dX8_types_10 : decode cX8_types 10 = .ok (.aload_n 0, 1) := dk_42 (dk_at dksX8_types_0 10 rfl rfl)
theorem dX8_types_11 : decode cX8_types 11 = .ok (.getfield 147, 3) := dk_180 0 147 (dk_at dksX8_types_0 11 rfl rfl)
theorem dX8_types_14 : decode cX8_types 14 = .ok (.iload_n 1, 1) := dk_27 (dk_at dksX8_types_0 14 rfl rfl)
theorem dX8_types_15 : decode cX8_types 15 = .ok (.bipush 8, 2) := dk_16 8 (dk_at dksX8_types_0 15 rfl rfl)
theorem dX8_types_17 : decode cX8_types 17 = .ok (.iload_n 2, 1) := dk_28 (dk_at dksX8_types_0 17 rfl rfl)
theorem dX8_types_18 : decode cX8_types 18 = .ok (.imul, 1) := dk_104 (dk_at dksX8_types_0 18 rfl rfl)
theorem dX8_types_19 : decode cX8_types 19 = .ok (.ishr, 1) := dk_122 (dk_at dksX8_types_0 19 rfl rfl)
theorem dX8_types_20 : decode cX8_types 20 = .ok (.i2b, 1) := dk_145 (dk_at dksX8_types_0 20 rfl rfl)
theorem dX8_types_21 : decode cX8_types 21 = .ok (.bastore, 1) := dk_84 (dk_at dksX8_types_0 21 rfl rfl)
theorem dX8_types_22 : decode cX8_types 22 = .ok (.aload_n 0, 1) := dk_42 (dk_at dksX8_types_0 22 rfl rfl)
theorem dX8_types_23 : decode cX8_types 23 = .ok (.aload_n 0, 1) := dk_42 (dk_at dksX8_types_0 23 rfl rfl)
theorem dX8_types_24 : decode cX8_types 24 = .ok (.getfield 147, 3) := dk_180 0 147 (dk_at dksX8_types_1 0 rfl rfl)
theorem dX8_types_27 : decode cX8_types 27 = .ok (.iconst 1, 1) := dk_4 (dk_at dksX8_types_1 3 rfl rfl)
theorem dX8_types_28 : decode cX8_types 28 = .ok (.iadd, 1) := dk_96 (dk_at dksX8_types_1 4 rfl rfl)
theorem dX8_types_29 : decode cX8_types 29 = .ok (.putfield 147, 3) := dk_181 0 147 (dk_at dksX8_types_1 5 rfl rfl)
theorem dX8_types_32 : decode cX8_types 32 = .ok (.iinc 2 (-1), 3) := dk_132 2 255 (dk_at dksX8_types_1 8 rfl rfl)
theorem dX8_types_35 : decode cX8_types 35 = .ok (.goto (-33), 3) := dk_167 255 223 (dk_at dksX8_types_1 11 rfl rfl)
theorem dX8_types_38 : decode cX8_types 38 = .ok (.return_, 1) := dk_177 (dk_at dksX8_types_1 14 rfl rfl)
abbrev cX8_law : ByteArray := prog_18_method_50_code
def yX8_law : MethodName := ⟨RX8, "law", "(I)I"⟩
def dkwX8_law_7 : List UInt8 := [79, 42, 180, 0, 59, 29, 42, 180, 0, 44, 29, 46, 79, 132, 3, 1, 167, 255, 197, 42, 180, 0, 231, 172]
abbrev dktX8_law_7 : List UInt8 := dkwX8_law_7 ++ []
def dkwX8_law_6 : List UInt8 := [79, 42, 180, 0, 53, 29, 42, 180, 0, 38, 29, 46, 79, 42, 180, 0, 56, 29, 42, 180, 0, 41, 29, 46]
abbrev dktX8_law_6 : List UInt8 := dkwX8_law_6 ++ dktX8_law_7
def dkwX8_law_5 : List UInt8 := [167, 255, 233, 3, 62, 29, 42, 180, 0, 231, 162, 0, 57, 42, 180, 0, 50, 29, 42, 180, 0, 35, 29, 46]
abbrev dktX8_law_5 : List UInt8 := dkwX8_law_5 ++ dktX8_law_6
def dkwX8_law_4 : List UInt8 := [29, 42, 180, 0, 178, 162, 0, 21, 42, 180, 0, 47, 29, 42, 180, 0, 29, 29, 46, 79, 132, 3, 1]
abbrev dktX8_law_4 : List UInt8 := dkwX8_law_4 ++ dktX8_law_5
def dkwX8_law_3 : List UInt8 := [42, 3, 181, 0, 147, 28, 154, 0, 8, 42, 180, 0, 164, 172, 42, 42, 180, 0, 231, 181, 0, 246, 3, 62]
abbrev dktX8_law_3 : List UInt8 := dkwX8_law_3 ++ dktX8_law_4
def dkwX8_law_2 : List UInt8 := [16, 59, 182, 0, 243, 153, 0, 14, 42, 182, 0, 240, 153, 0, 7, 4, 167, 0, 4, 3, 61, 167, 255, 219]
abbrev dktX8_law_2 : List UInt8 := dkwX8_law_2 ++ dktX8_law_3
def dkwX8_law_1 : List UInt8 := [182, 0, 237, 42, 182, 0, 240, 61, 28, 153, 0, 39, 42, 180, 0, 154, 42, 180, 0, 157, 162, 0, 28, 42]
abbrev dktX8_law_1 : List UInt8 := dkwX8_law_1 ++ dktX8_law_2
def dkwX8_law_0 : List UInt8 := [27, 4, 17, 0, 240, 184, 0, 93, 153, 0, 11, 27, 42, 180, 0, 147, 164, 0, 5, 2, 172, 42, 27]
abbrev dktX8_law_0 : List UInt8 := dkwX8_law_0 ++ dktX8_law_1
theorem dksX8_law_0 : cX8_law.data.toList.drop 0 = dktX8_law_0 := by decide +kernel
theorem dksX8_law_1 : cX8_law.data.toList.drop 23 = dktX8_law_1 := dk_seg dksX8_law_0 23 rfl rfl
theorem dksX8_law_2 : cX8_law.data.toList.drop 47 = dktX8_law_2 := dk_seg dksX8_law_1 24 rfl rfl
theorem dksX8_law_3 : cX8_law.data.toList.drop 71 = dktX8_law_3 := dk_seg dksX8_law_2 24 rfl rfl
theorem dksX8_law_4 : cX8_law.data.toList.drop 95 = dktX8_law_4 := dk_seg dksX8_law_3 24 rfl rfl
theorem dksX8_law_5 : cX8_law.data.toList.drop 118 = dktX8_law_5 := dk_seg dksX8_law_4 23 rfl rfl
theorem dksX8_law_6 : cX8_law.data.toList.drop 142 = dktX8_law_6 := dk_seg dksX8_law_5 24 rfl rfl
theorem dksX8_law_7 : cX8_law.data.toList.drop 166 = dktX8_law_7 := dk_seg dksX8_law_6 24 rfl rfl
theorem dX8_law_0 : decode cX8_law 0 = .ok (.iload_n 1, 1) := dk_27 (dk_at dksX8_law_0 0 rfl rfl)
theorem dX8_law_1 : decode cX8_law 1 = .ok (.iconst 1, 1) := dk_4 (dk_at dksX8_law_0 1 rfl rfl)
theorem dX8_law_2 : decode cX8_law 2 = .ok (.sipush 240, 3) := dk_17 0 240 (dk_at dksX8_law_0 2 rfl rfl)
theorem dX8_law_5 : decode cX8_law 5 = .ok (.invokestatic 93, 3) := dk_184 0 93 (dk_at dksX8_law_0 5 rfl rfl)
theorem dX8_law_8 : decode cX8_law 8 = .ok (.ifCond .eq 11, 3) := dk_153 0 11 (dk_at dksX8_law_0 8 rfl rfl)
theorem dX8_law_11 : decode cX8_law 11 = .ok (.iload_n 1, 1) := dk_27 (dk_at dksX8_law_0 11 rfl rfl)
theorem dX8_law_12 : decode cX8_law 12 = .ok (.aload_n 0, 1) := dk_42 (dk_at dksX8_law_0 12 rfl rfl)
theorem dX8_law_13 : decode cX8_law 13 = .ok (.getfield 147, 3) := dk_180 0 147 (dk_at dksX8_law_0 13 rfl rfl)
theorem dX8_law_16 : decode cX8_law 16 = .ok (.if_icmp .le 5, 3) := dk_164 0 5 (dk_at dksX8_law_0 16 rfl rfl)
theorem dX8_law_19 : decode cX8_law 19 = .ok (.iconst (-1), 1) := dk_2 (dk_at dksX8_law_0 19 rfl rfl)
theorem dX8_law_20 : decode cX8_law 20 = .ok (.ireturn, 1) := dk_172 (dk_at dksX8_law_0 20 rfl rfl)
theorem dX8_law_21 : decode cX8_law 21 = .ok (.aload_n 0, 1) := dk_42 (dk_at dksX8_law_0 21 rfl rfl)
theorem dX8_law_22 : decode cX8_law 22 = .ok (.iload_n 1, 1) := dk_27 (dk_at dksX8_law_0 22 rfl rfl)
theorem dX8_law_23 : decode cX8_law 23 = .ok (.invokevirtual 237, 3) := dk_182 0 237 (dk_at dksX8_law_1 0 rfl rfl)
theorem dX8_law_26 : decode cX8_law 26 = .ok (.aload_n 0, 1) := dk_42 (dk_at dksX8_law_1 3 rfl rfl)
theorem dX8_law_27 : decode cX8_law 27 = .ok (.invokevirtual 240, 3) := dk_182 0 240 (dk_at dksX8_law_1 4 rfl rfl)
theorem dX8_law_30 : decode cX8_law 30 = .ok (.istore_n 2, 1) := dk_61 (dk_at dksX8_law_1 7 rfl rfl)
theorem dX8_law_31 : decode cX8_law 31 = .ok (.iload_n 2, 1) := dk_28 (dk_at dksX8_law_1 8 rfl rfl)
theorem dX8_law_32 : decode cX8_law 32 = .ok (.ifCond .eq 39, 3) := dk_153 0 39 (dk_at dksX8_law_1 9 rfl rfl)
theorem dX8_law_35 : decode cX8_law 35 = .ok (.aload_n 0, 1) := dk_42 (dk_at dksX8_law_1 12 rfl rfl)
theorem dX8_law_36 : decode cX8_law 36 = .ok (.getfield 154, 3) := dk_180 0 154 (dk_at dksX8_law_1 13 rfl rfl)
theorem dX8_law_39 : decode cX8_law 39 = .ok (.aload_n 0, 1) := dk_42 (dk_at dksX8_law_1 16 rfl rfl)
theorem dX8_law_40 : decode cX8_law 40 = .ok (.getfield 157, 3) := dk_180 0 157 (dk_at dksX8_law_1 17 rfl rfl)
theorem dX8_law_43 : decode cX8_law 43 = .ok (.if_icmp .ge 28, 3) := dk_162 0 28 (dk_at dksX8_law_1 20 rfl rfl)
theorem dX8_law_46 : decode cX8_law 46 = .ok (.aload_n 0, 1) := dk_42 (dk_at dksX8_law_1 23 rfl rfl)
theorem dX8_law_47 : decode cX8_law 47 = .ok (.bipush 59, 2) := dk_16 59 (dk_at dksX8_law_2 0 rfl rfl)
theorem dX8_law_49 : decode cX8_law 49 = .ok (.invokevirtual 243, 3) := dk_182 0 243 (dk_at dksX8_law_2 2 rfl rfl)
theorem dX8_law_52 : decode cX8_law 52 = .ok (.ifCond .eq 14, 3) := dk_153 0 14 (dk_at dksX8_law_2 5 rfl rfl)
theorem dX8_law_55 : decode cX8_law 55 = .ok (.aload_n 0, 1) := dk_42 (dk_at dksX8_law_2 8 rfl rfl)
theorem dX8_law_56 : decode cX8_law 56 = .ok (.invokevirtual 240, 3) := dk_182 0 240 (dk_at dksX8_law_2 9 rfl rfl)
theorem dX8_law_59 : decode cX8_law 59 = .ok (.ifCond .eq 7, 3) := dk_153 0 7 (dk_at dksX8_law_2 12 rfl rfl)
theorem dX8_law_62 : decode cX8_law 62 = .ok (.iconst 1, 1) := dk_4 (dk_at dksX8_law_2 15 rfl rfl)
theorem dX8_law_63 : decode cX8_law 63 = .ok (.goto 4, 3) := dk_167 0 4 (dk_at dksX8_law_2 16 rfl rfl)
theorem dX8_law_66 : decode cX8_law 66 = .ok (.iconst 0, 1) := dk_3 (dk_at dksX8_law_2 19 rfl rfl)
theorem dX8_law_67 : decode cX8_law 67 = .ok (.istore_n 2, 1) := dk_61 (dk_at dksX8_law_2 20 rfl rfl)
theorem dX8_law_68 : decode cX8_law 68 = .ok (.goto (-37), 3) := dk_167 255 219 (dk_at dksX8_law_2 21 rfl rfl)
theorem dX8_law_71 : decode cX8_law 71 = .ok (.aload_n 0, 1) := dk_42 (dk_at dksX8_law_3 0 rfl rfl)
theorem dX8_law_72 : decode cX8_law 72 = .ok (.iconst 0, 1) := dk_3 (dk_at dksX8_law_3 1 rfl rfl)
theorem dX8_law_73 : decode cX8_law 73 = .ok (.putfield 147, 3) := dk_181 0 147 (dk_at dksX8_law_3 2 rfl rfl)
theorem dX8_law_76 : decode cX8_law 76 = .ok (.iload_n 2, 1) := dk_28 (dk_at dksX8_law_3 5 rfl rfl)
theorem dX8_law_77 : decode cX8_law 77 = .ok (.ifCond .ne 8, 3) := dk_154 0 8 (dk_at dksX8_law_3 6 rfl rfl)
theorem dX8_law_80 : decode cX8_law 80 = .ok (.aload_n 0, 1) := dk_42 (dk_at dksX8_law_3 9 rfl rfl)
theorem dX8_law_81 : decode cX8_law 81 = .ok (.getfield 164, 3) := dk_180 0 164 (dk_at dksX8_law_3 10 rfl rfl)
theorem dX8_law_84 : decode cX8_law 84 = .ok (.ireturn, 1) := dk_172 (dk_at dksX8_law_3 13 rfl rfl)
theorem dX8_law_85 : decode cX8_law 85 = .ok (.aload_n 0, 1) := dk_42 (dk_at dksX8_law_3 14 rfl rfl)
theorem dX8_law_86 : decode cX8_law 86 = .ok (.aload_n 0, 1) := dk_42 (dk_at dksX8_law_3 15 rfl rfl)
theorem dX8_law_87 : decode cX8_law 87 = .ok (.getfield 231, 3) := dk_180 0 231 (dk_at dksX8_law_3 16 rfl rfl)
theorem dX8_law_90 : decode cX8_law 90 = .ok (.putfield 246, 3) := dk_181 0 246 (dk_at dksX8_law_3 19 rfl rfl)
theorem dX8_law_93 : decode cX8_law 93 = .ok (.iconst 0, 1) := dk_3 (dk_at dksX8_law_3 22 rfl rfl)
theorem dX8_law_94 : decode cX8_law 94 = .ok (.istore_n 3, 1) := dk_62 (dk_at dksX8_law_3 23 rfl rfl)
theorem dX8_law_95 : decode cX8_law 95 = .ok (.iload_n 3, 1) := dk_29 (dk_at dksX8_law_4 0 rfl rfl)
theorem dX8_law_96 : decode cX8_law 96 = .ok (.aload_n 0, 1) := dk_42 (dk_at dksX8_law_4 1 rfl rfl)
theorem dX8_law_97 : decode cX8_law 97 = .ok (.getfield 178, 3) := dk_180 0 178 (dk_at dksX8_law_4 2 rfl rfl)
theorem dX8_law_100 : decode cX8_law 100 = .ok (.if_icmp .ge 21, 3) := dk_162 0 21 (dk_at dksX8_law_4 5 rfl rfl)
theorem dX8_law_103 : decode cX8_law 103 = .ok (.aload_n 0, 1) := dk_42 (dk_at dksX8_law_4 8 rfl rfl)
theorem dX8_law_104 : decode cX8_law 104 = .ok (.getfield 47, 3) := dk_180 0 47 (dk_at dksX8_law_4 9 rfl rfl)
theorem dX8_law_107 : decode cX8_law 107 = .ok (.iload_n 3, 1) := dk_29 (dk_at dksX8_law_4 12 rfl rfl)
theorem dX8_law_108 : decode cX8_law 108 = .ok (.aload_n 0, 1) := dk_42 (dk_at dksX8_law_4 13 rfl rfl)
theorem dX8_law_109 : decode cX8_law 109 = .ok (.getfield 29, 3) := dk_180 0 29 (dk_at dksX8_law_4 14 rfl rfl)
theorem dX8_law_112 : decode cX8_law 112 = .ok (.iload_n 3, 1) := dk_29 (dk_at dksX8_law_4 17 rfl rfl)
theorem dX8_law_113 : decode cX8_law 113 = .ok (.iaload, 1) := dk_46 (dk_at dksX8_law_4 18 rfl rfl)
theorem dX8_law_114 : decode cX8_law 114 = .ok (.iastore, 1) := dk_79 (dk_at dksX8_law_4 19 rfl rfl)
theorem dX8_law_115 : decode cX8_law 115 = .ok (.iinc 3 1, 3) := dk_132 3 1 (dk_at dksX8_law_4 20 rfl rfl)
theorem dX8_law_118 : decode cX8_law 118 = .ok (.goto (-23), 3) := dk_167 255 233 (dk_at dksX8_law_5 0 rfl rfl)
theorem dX8_law_121 : decode cX8_law 121 = .ok (.iconst 0, 1) := dk_3 (dk_at dksX8_law_5 3 rfl rfl)
theorem dX8_law_122 : decode cX8_law 122 = .ok (.istore_n 3, 1) := dk_62 (dk_at dksX8_law_5 4 rfl rfl)
theorem dX8_law_123 : decode cX8_law 123 = .ok (.iload_n 3, 1) := dk_29 (dk_at dksX8_law_5 5 rfl rfl)
theorem dX8_law_124 : decode cX8_law 124 = .ok (.aload_n 0, 1) := dk_42 (dk_at dksX8_law_5 6 rfl rfl)
theorem dX8_law_125 : decode cX8_law 125 = .ok (.getfield 231, 3) := dk_180 0 231 (dk_at dksX8_law_5 7 rfl rfl)
theorem dX8_law_128 : decode cX8_law 128 = .ok (.if_icmp .ge 57, 3) := dk_162 0 57 (dk_at dksX8_law_5 10 rfl rfl)
theorem dX8_law_131 : decode cX8_law 131 = .ok (.aload_n 0, 1) := dk_42 (dk_at dksX8_law_5 13 rfl rfl)
theorem dX8_law_132 : decode cX8_law 132 = .ok (.getfield 50, 3) := dk_180 0 50 (dk_at dksX8_law_5 14 rfl rfl)
theorem dX8_law_135 : decode cX8_law 135 = .ok (.iload_n 3, 1) := dk_29 (dk_at dksX8_law_5 17 rfl rfl)
theorem dX8_law_136 : decode cX8_law 136 = .ok (.aload_n 0, 1) := dk_42 (dk_at dksX8_law_5 18 rfl rfl)
theorem dX8_law_137 : decode cX8_law 137 = .ok (.getfield 35, 3) := dk_180 0 35 (dk_at dksX8_law_5 19 rfl rfl)
theorem dX8_law_140 : decode cX8_law 140 = .ok (.iload_n 3, 1) := dk_29 (dk_at dksX8_law_5 22 rfl rfl)
theorem dX8_law_141 : decode cX8_law 141 = .ok (.iaload, 1) := dk_46 (dk_at dksX8_law_5 23 rfl rfl)
theorem dX8_law_142 : decode cX8_law 142 = .ok (.iastore, 1) := dk_79 (dk_at dksX8_law_6 0 rfl rfl)
theorem dX8_law_143 : decode cX8_law 143 = .ok (.aload_n 0, 1) := dk_42 (dk_at dksX8_law_6 1 rfl rfl)
theorem dX8_law_144 : decode cX8_law 144 = .ok (.getfield 53, 3) := dk_180 0 53 (dk_at dksX8_law_6 2 rfl rfl)
theorem dX8_law_147 : decode cX8_law 147 = .ok (.iload_n 3, 1) := dk_29 (dk_at dksX8_law_6 5 rfl rfl)
theorem dX8_law_148 : decode cX8_law 148 = .ok (.aload_n 0, 1) := dk_42 (dk_at dksX8_law_6 6 rfl rfl)
theorem dX8_law_149 : decode cX8_law 149 = .ok (.getfield 38, 3) := dk_180 0 38 (dk_at dksX8_law_6 7 rfl rfl)
theorem dX8_law_152 : decode cX8_law 152 = .ok (.iload_n 3, 1) := dk_29 (dk_at dksX8_law_6 10 rfl rfl)
theorem dX8_law_153 : decode cX8_law 153 = .ok (.iaload, 1) := dk_46 (dk_at dksX8_law_6 11 rfl rfl)
theorem dX8_law_154 : decode cX8_law 154 = .ok (.iastore, 1) := dk_79 (dk_at dksX8_law_6 12 rfl rfl)
theorem dX8_law_155 : decode cX8_law 155 = .ok (.aload_n 0, 1) := dk_42 (dk_at dksX8_law_6 13 rfl rfl)
theorem dX8_law_156 : decode cX8_law 156 = .ok (.getfield 56, 3) := dk_180 0 56 (dk_at dksX8_law_6 14 rfl rfl)
theorem dX8_law_159 : decode cX8_law 159 = .ok (.iload_n 3, 1) := dk_29 (dk_at dksX8_law_6 17 rfl rfl)
theorem dX8_law_160 : decode cX8_law 160 = .ok (.aload_n 0, 1) := dk_42 (dk_at dksX8_law_6 18 rfl rfl)
theorem dX8_law_161 : decode cX8_law 161 = .ok (.getfield 41, 3) := dk_180 0 41 (dk_at dksX8_law_6 19 rfl rfl)
theorem dX8_law_164 : decode cX8_law 164 = .ok (.iload_n 3, 1) := dk_29 (dk_at dksX8_law_6 22 rfl rfl)
theorem dX8_law_165 : decode cX8_law 165 = .ok (.iaload, 1) := dk_46 (dk_at dksX8_law_6 23 rfl rfl)
theorem dX8_law_166 : decode cX8_law 166 = .ok (.iastore, 1) := dk_79 (dk_at dksX8_law_7 0 rfl rfl)
theorem dX8_law_167 : decode cX8_law 167 = .ok (.aload_n 0, 1) := dk_42 (dk_at dksX8_law_7 1 rfl rfl)
theorem dX8_law_168 : decode cX8_law 168 = .ok (.getfield 59, 3) := dk_180 0 59 (dk_at dksX8_law_7 2 rfl rfl)
theorem dX8_law_171 : decode cX8_law 171 = .ok (.iload_n 3, 1) := dk_29 (dk_at dksX8_law_7 5 rfl rfl)
theorem dX8_law_172 : decode cX8_law 172 = .ok (.aload_n 0, 1) := dk_42 (dk_at dksX8_law_7 6 rfl rfl)
theorem dX8_law_173 : decode cX8_law 173 = .ok (.getfield 44, 3) := dk_180 0 44 (dk_at dksX8_law_7 7 rfl rfl)
theorem dX8_law_176 : decode cX8_law 176 = .ok (.iload_n 3, 1) := dk_29 (dk_at dksX8_law_7 10 rfl rfl)
theorem dX8_law_177 : decode cX8_law 177 = .ok (.iaload, 1) := dk_46 (dk_at dksX8_law_7 11 rfl rfl)
theorem dX8_law_178 : decode cX8_law 178 = .ok (.iastore, 1) := dk_79 (dk_at dksX8_law_7 12 rfl rfl)
theorem dX8_law_179 : decode cX8_law 179 = .ok (.iinc 3 1, 3) := dk_132 3 1 (dk_at dksX8_law_7 13 rfl rfl)
theorem dX8_law_182 : decode cX8_law 182 = .ok (.goto (-59), 3) := dk_167 255 197 (dk_at dksX8_law_7 16 rfl rfl)
theorem dX8_law_185 : decode cX8_law 185 = .ok (.aload_n 0, 1) := dk_42 (dk_at dksX8_law_7 19 rfl rfl)
theorem dX8_law_186 : decode cX8_law 186 = .ok (.getfield 231, 3) := dk_180 0 231 (dk_at dksX8_law_7 20 rfl rfl)
theorem dX8_law_189 : decode cX8_law 189 = .ok (.ireturn, 1) := dk_172 (dk_at dksX8_law_7 23 rfl rfl)
abbrev cX8_in : ByteArray := prog_18_method_2_code
def yX8_in : MethodName := ⟨RX8, "in", "(III)Z"⟩
def dkwX8_in_0 : List UInt8 := [26, 27, 161, 0, 12, 26, 28, 163, 0, 7, 4, 167, 0, 4, 3, 172]
abbrev dktX8_in_0 : List UInt8 := dkwX8_in_0 ++ []
theorem dksX8_in_0 : cX8_in.data.toList.drop 0 = dktX8_in_0 := by decide +kernel
theorem dX8_in_0 : decode cX8_in 0 = .ok (.iload_n 0, 1) := dk_26 (dk_at dksX8_in_0 0 rfl rfl)
theorem dX8_in_1 : decode cX8_in 1 = .ok (.iload_n 1, 1) := dk_27 (dk_at dksX8_in_0 1 rfl rfl)
theorem dX8_in_2 : decode cX8_in 2 = .ok (.if_icmp .lt 12, 3) := dk_161 0 12 (dk_at dksX8_in_0 2 rfl rfl)
theorem dX8_in_5 : decode cX8_in 5 = .ok (.iload_n 0, 1) := dk_26 (dk_at dksX8_in_0 5 rfl rfl)
theorem dX8_in_6 : decode cX8_in 6 = .ok (.iload_n 2, 1) := dk_28 (dk_at dksX8_in_0 6 rfl rfl)
theorem dX8_in_7 : decode cX8_in 7 = .ok (.if_icmp .gt 7, 3) := dk_163 0 7 (dk_at dksX8_in_0 7 rfl rfl)
theorem dX8_in_10 : decode cX8_in 10 = .ok (.iconst 1, 1) := dk_4 (dk_at dksX8_in_0 10 rfl rfl)
theorem dX8_in_11 : decode cX8_in 11 = .ok (.goto 4, 3) := dk_167 0 4 (dk_at dksX8_in_0 11 rfl rfl)
theorem dX8_in_14 : decode cX8_in 14 = .ok (.iconst 0, 1) := dk_3 (dk_at dksX8_in_0 14 rfl rfl)
theorem dX8_in_15 : decode cX8_in 15 = .ok (.ireturn, 1) := dk_172 (dk_at dksX8_in_0 15 rfl rfl)
abbrev cX8_beginsText : ByteArray := prog_18_method_49_code
def yX8_beginsText : MethodName := ⟨RX8, "beginsText", "(I)V"⟩
def dkwX8_beginsText_0 : List UInt8 := [42, 3, 181, 0, 154, 42, 27, 181, 0, 157, 42, 3, 181, 0, 178, 42, 3, 181, 0, 231, 177]
abbrev dktX8_beginsText_0 : List UInt8 := dkwX8_beginsText_0 ++ []
theorem dksX8_beginsText_0 : cX8_beginsText.data.toList.drop 0 = dktX8_beginsText_0 := by decide +kernel
theorem dX8_beginsText_0 : decode cX8_beginsText 0 = .ok (.aload_n 0, 1) := dk_42 (dk_at dksX8_beginsText_0 0 rfl rfl)
theorem dX8_beginsText_1 : decode cX8_beginsText 1 = .ok (.iconst 0, 1) := dk_3 (dk_at dksX8_beginsText_0 1 rfl rfl)
theorem dX8_beginsText_2 : decode cX8_beginsText 2 = .ok (.putfield 154, 3) := dk_181 0 154 (dk_at dksX8_beginsText_0 2 rfl rfl)
theorem dX8_beginsText_5 : decode cX8_beginsText 5 = .ok (.aload_n 0, 1) := dk_42 (dk_at dksX8_beginsText_0 5 rfl rfl)
theorem dX8_beginsText_6 : decode cX8_beginsText 6 = .ok (.iload_n 1, 1) := dk_27 (dk_at dksX8_beginsText_0 6 rfl rfl)
theorem dX8_beginsText_7 : decode cX8_beginsText 7 = .ok (.putfield 157, 3) := dk_181 0 157 (dk_at dksX8_beginsText_0 7 rfl rfl)
theorem dX8_beginsText_10 : decode cX8_beginsText 10 = .ok (.aload_n 0, 1) := dk_42 (dk_at dksX8_beginsText_0 10 rfl rfl)
theorem dX8_beginsText_11 : decode cX8_beginsText 11 = .ok (.iconst 0, 1) := dk_3 (dk_at dksX8_beginsText_0 11 rfl rfl)
theorem dX8_beginsText_12 : decode cX8_beginsText 12 = .ok (.putfield 178, 3) := dk_181 0 178 (dk_at dksX8_beginsText_0 12 rfl rfl)
theorem dX8_beginsText_15 : decode cX8_beginsText 15 = .ok (.aload_n 0, 1) := dk_42 (dk_at dksX8_beginsText_0 15 rfl rfl)
theorem dX8_beginsText_16 : decode cX8_beginsText 16 = .ok (.iconst 0, 1) := dk_3 (dk_at dksX8_beginsText_0 16 rfl rfl)
theorem dX8_beginsText_17 : decode cX8_beginsText 17 = .ok (.putfield 231, 3) := dk_181 0 231 (dk_at dksX8_beginsText_0 17 rfl rfl)
theorem dX8_beginsText_20 : decode cX8_beginsText 20 = .ok (.return_, 1) := dk_177 (dk_at dksX8_beginsText_0 20 rfl rfl)
abbrev cX8_readsRule : ByteArray := prog_18_method_48_code
def yX8_readsRule : MethodName := ⟨RX8, "readsRule", "()Z"⟩
def dkwX8_readsRule_6 : List UInt8 := [180, 0, 44, 42, 180, 0, 231, 42, 180, 0, 178, 79, 42, 42, 180, 0, 231, 4, 96, 181, 0, 231, 4, 172]
abbrev dktX8_readsRule_6 : List UInt8 := dkwX8_readsRule_6 ++ []
def dkwX8_readsRule_5 : List UInt8 := [180, 0, 41, 42, 180, 0, 231, 42, 180, 0, 178, 79, 42, 182, 0, 234, 154, 0, 5, 3, 172, 42]
abbrev dktX8_readsRule_5 : List UInt8 := dkwX8_readsRule_5 ++ dktX8_readsRule_6
def dkwX8_readsRule_4 : List UInt8 := [181, 0, 182, 42, 3, 181, 0, 185, 27, 16, 120, 159, 0, 12, 42, 182, 0, 216, 154, 0, 5, 3, 172, 42]
abbrev dktX8_readsRule_4 : List UInt8 := dkwX8_readsRule_4 ++ dktX8_readsRule_5
def dkwX8_readsRule_3 : List UInt8 := [180, 0, 154, 4, 96, 181, 0, 154, 42, 180, 0, 38, 42, 180, 0, 231, 42, 180, 0, 178, 79, 42, 3]
abbrev dktX8_readsRule_3 : List UInt8 := dkwX8_readsRule_3 ++ dktX8_readsRule_4
def dkwX8_readsRule_2 : List UInt8 := [42, 7, 42, 180, 0, 154, 182, 0, 167, 172, 42, 180, 0, 35, 42, 180, 0, 231, 27, 79, 42, 42]
abbrev dktX8_readsRule_2 : List UInt8 := dkwX8_readsRule_2 ++ dktX8_readsRule_3
def dkwX8_readsRule_1 : List UInt8 := [16, 120, 159, 0, 13, 42, 4, 42, 180, 0, 154, 182, 0, 167, 172, 42, 180, 0, 231, 16, 16, 160, 0, 13]
abbrev dktX8_readsRule_1 : List UInt8 := dkwX8_readsRule_1 ++ dktX8_readsRule_2
def dkwX8_readsRule_0 : List UInt8 := [42, 182, 0, 160, 60, 27, 16, 100, 159, 0, 31, 27, 16, 108, 159, 0, 25, 27, 16, 101, 159, 0, 19, 27]
abbrev dktX8_readsRule_0 : List UInt8 := dkwX8_readsRule_0 ++ dktX8_readsRule_1
theorem dksX8_readsRule_0 : cX8_readsRule.data.toList.drop 0 = dktX8_readsRule_0 := by decide +kernel
theorem dksX8_readsRule_1 : cX8_readsRule.data.toList.drop 24 = dktX8_readsRule_1 := dk_seg dksX8_readsRule_0 24 rfl rfl
theorem dksX8_readsRule_2 : cX8_readsRule.data.toList.drop 48 = dktX8_readsRule_2 := dk_seg dksX8_readsRule_1 24 rfl rfl
theorem dksX8_readsRule_3 : cX8_readsRule.data.toList.drop 70 = dktX8_readsRule_3 := dk_seg dksX8_readsRule_2 22 rfl rfl
theorem dksX8_readsRule_4 : cX8_readsRule.data.toList.drop 93 = dktX8_readsRule_4 := dk_seg dksX8_readsRule_3 23 rfl rfl
theorem dksX8_readsRule_5 : cX8_readsRule.data.toList.drop 117 = dktX8_readsRule_5 := dk_seg dksX8_readsRule_4 24 rfl rfl
theorem dksX8_readsRule_6 : cX8_readsRule.data.toList.drop 139 = dktX8_readsRule_6 := dk_seg dksX8_readsRule_5 22 rfl rfl
theorem dX8_readsRule_0 : decode cX8_readsRule 0 = .ok (.aload_n 0, 1) := dk_42 (dk_at dksX8_readsRule_0 0 rfl rfl)
theorem dX8_readsRule_1 : decode cX8_readsRule 1 = .ok (.invokevirtual 160, 3) := dk_182 0 160 (dk_at dksX8_readsRule_0 1 rfl rfl)
theorem dX8_readsRule_4 : decode cX8_readsRule 4 = .ok (.istore_n 1, 1) := dk_60 (dk_at dksX8_readsRule_0 4 rfl rfl)
theorem dX8_readsRule_5 : decode cX8_readsRule 5 = .ok (.iload_n 1, 1) := dk_27 (dk_at dksX8_readsRule_0 5 rfl rfl)
theorem dX8_readsRule_6 : decode cX8_readsRule 6 = .ok (.bipush 100, 2) := dk_16 100 (dk_at dksX8_readsRule_0 6 rfl rfl)
theorem dX8_readsRule_8 : decode cX8_readsRule 8 = .ok (.if_icmp .eq 31, 3) := dk_159 0 31 (dk_at dksX8_readsRule_0 8 rfl rfl)
theorem dX8_readsRule_11 : decode cX8_readsRule 11 = .ok (.iload_n 1, 1) := dk_27 (dk_at dksX8_readsRule_0 11 rfl rfl)
theorem dX8_readsRule_12 : decode cX8_readsRule 12 = .ok (.bipush 108, 2) := dk_16 108 (dk_at dksX8_readsRule_0 12 rfl rfl)
theorem dX8_readsRule_14 : decode cX8_readsRule 14 = .ok (.if_icmp .eq 25, 3) := dk_159 0 25 (dk_at dksX8_readsRule_0 14 rfl rfl)
theorem dX8_readsRule_17 : decode cX8_readsRule 17 = .ok (.iload_n 1, 1) := dk_27 (dk_at dksX8_readsRule_0 17 rfl rfl)
theorem dX8_readsRule_18 : decode cX8_readsRule 18 = .ok (.bipush 101, 2) := dk_16 101 (dk_at dksX8_readsRule_0 18 rfl rfl)
theorem dX8_readsRule_20 : decode cX8_readsRule 20 = .ok (.if_icmp .eq 19, 3) := dk_159 0 19 (dk_at dksX8_readsRule_0 20 rfl rfl)
theorem dX8_readsRule_23 : decode cX8_readsRule 23 = .ok (.iload_n 1, 1) := dk_27 (dk_at dksX8_readsRule_0 23 rfl rfl)
theorem dX8_readsRule_24 : decode cX8_readsRule 24 = .ok (.bipush 120, 2) := dk_16 120 (dk_at dksX8_readsRule_1 0 rfl rfl)
theorem dX8_readsRule_26 : decode cX8_readsRule 26 = .ok (.if_icmp .eq 13, 3) := dk_159 0 13 (dk_at dksX8_readsRule_1 2 rfl rfl)
theorem dX8_readsRule_29 : decode cX8_readsRule 29 = .ok (.aload_n 0, 1) := dk_42 (dk_at dksX8_readsRule_1 5 rfl rfl)
theorem dX8_readsRule_30 : decode cX8_readsRule 30 = .ok (.iconst 1, 1) := dk_4 (dk_at dksX8_readsRule_1 6 rfl rfl)
theorem dX8_readsRule_31 : decode cX8_readsRule 31 = .ok (.aload_n 0, 1) := dk_42 (dk_at dksX8_readsRule_1 7 rfl rfl)
theorem dX8_readsRule_32 : decode cX8_readsRule 32 = .ok (.getfield 154, 3) := dk_180 0 154 (dk_at dksX8_readsRule_1 8 rfl rfl)
theorem dX8_readsRule_35 : decode cX8_readsRule 35 = .ok (.invokevirtual 167, 3) := dk_182 0 167 (dk_at dksX8_readsRule_1 11 rfl rfl)
theorem dX8_readsRule_38 : decode cX8_readsRule 38 = .ok (.ireturn, 1) := dk_172 (dk_at dksX8_readsRule_1 14 rfl rfl)
theorem dX8_readsRule_39 : decode cX8_readsRule 39 = .ok (.aload_n 0, 1) := dk_42 (dk_at dksX8_readsRule_1 15 rfl rfl)
theorem dX8_readsRule_40 : decode cX8_readsRule 40 = .ok (.getfield 231, 3) := dk_180 0 231 (dk_at dksX8_readsRule_1 16 rfl rfl)
theorem dX8_readsRule_43 : decode cX8_readsRule 43 = .ok (.bipush 16, 2) := dk_16 16 (dk_at dksX8_readsRule_1 19 rfl rfl)
theorem dX8_readsRule_45 : decode cX8_readsRule 45 = .ok (.if_icmp .ne 13, 3) := dk_160 0 13 (dk_at dksX8_readsRule_1 21 rfl rfl)
theorem dX8_readsRule_48 : decode cX8_readsRule 48 = .ok (.aload_n 0, 1) := dk_42 (dk_at dksX8_readsRule_2 0 rfl rfl)
theorem dX8_readsRule_49 : decode cX8_readsRule 49 = .ok (.iconst 4, 1) := dk_7 (dk_at dksX8_readsRule_2 1 rfl rfl)
theorem dX8_readsRule_50 : decode cX8_readsRule 50 = .ok (.aload_n 0, 1) := dk_42 (dk_at dksX8_readsRule_2 2 rfl rfl)
theorem dX8_readsRule_51 : decode cX8_readsRule 51 = .ok (.getfield 154, 3) := dk_180 0 154 (dk_at dksX8_readsRule_2 3 rfl rfl)
theorem dX8_readsRule_54 : decode cX8_readsRule 54 = .ok (.invokevirtual 167, 3) := dk_182 0 167 (dk_at dksX8_readsRule_2 6 rfl rfl)
theorem dX8_readsRule_57 : decode cX8_readsRule 57 = .ok (.ireturn, 1) := dk_172 (dk_at dksX8_readsRule_2 9 rfl rfl)
theorem dX8_readsRule_58 : decode cX8_readsRule 58 = .ok (.aload_n 0, 1) := dk_42 (dk_at dksX8_readsRule_2 10 rfl rfl)
theorem dX8_readsRule_59 : decode cX8_readsRule 59 = .ok (.getfield 35, 3) := dk_180 0 35 (dk_at dksX8_readsRule_2 11 rfl rfl)
theorem dX8_readsRule_62 : decode cX8_readsRule 62 = .ok (.aload_n 0, 1) := dk_42 (dk_at dksX8_readsRule_2 14 rfl rfl)
theorem dX8_readsRule_63 : decode cX8_readsRule 63 = .ok (.getfield 231, 3) := dk_180 0 231 (dk_at dksX8_readsRule_2 15 rfl rfl)
theorem dX8_readsRule_66 : decode cX8_readsRule 66 = .ok (.iload_n 1, 1) := dk_27 (dk_at dksX8_readsRule_2 18 rfl rfl)
theorem dX8_readsRule_67 : decode cX8_readsRule 67 = .ok (.iastore, 1) := dk_79 (dk_at dksX8_readsRule_2 19 rfl rfl)
theorem dX8_readsRule_68 : decode cX8_readsRule 68 = .ok (.aload_n 0, 1) := dk_42 (dk_at dksX8_readsRule_2 20 rfl rfl)
theorem dX8_readsRule_69 : decode cX8_readsRule 69 = .ok (.aload_n 0, 1) := dk_42 (dk_at dksX8_readsRule_2 21 rfl rfl)
theorem dX8_readsRule_70 : decode cX8_readsRule 70 = .ok (.getfield 154, 3) := dk_180 0 154 (dk_at dksX8_readsRule_3 0 rfl rfl)
theorem dX8_readsRule_73 : decode cX8_readsRule 73 = .ok (.iconst 1, 1) := dk_4 (dk_at dksX8_readsRule_3 3 rfl rfl)
theorem dX8_readsRule_74 : decode cX8_readsRule 74 = .ok (.iadd, 1) := dk_96 (dk_at dksX8_readsRule_3 4 rfl rfl)
theorem dX8_readsRule_75 : decode cX8_readsRule 75 = .ok (.putfield 154, 3) := dk_181 0 154 (dk_at dksX8_readsRule_3 5 rfl rfl)
theorem dX8_readsRule_78 : decode cX8_readsRule 78 = .ok (.aload_n 0, 1) := dk_42 (dk_at dksX8_readsRule_3 8 rfl rfl)
theorem dX8_readsRule_79 : decode cX8_readsRule 79 = .ok (.getfield 38, 3) := dk_180 0 38 (dk_at dksX8_readsRule_3 9 rfl rfl)
theorem dX8_readsRule_82 : decode cX8_readsRule 82 = .ok (.aload_n 0, 1) := dk_42 (dk_at dksX8_readsRule_3 12 rfl rfl)
theorem dX8_readsRule_83 : decode cX8_readsRule 83 = .ok (.getfield 231, 3) := dk_180 0 231 (dk_at dksX8_readsRule_3 13 rfl rfl)
theorem dX8_readsRule_86 : decode cX8_readsRule 86 = .ok (.aload_n 0, 1) := dk_42 (dk_at dksX8_readsRule_3 16 rfl rfl)
theorem dX8_readsRule_87 : decode cX8_readsRule 87 = .ok (.getfield 178, 3) := dk_180 0 178 (dk_at dksX8_readsRule_3 17 rfl rfl)
theorem dX8_readsRule_90 : decode cX8_readsRule 90 = .ok (.iastore, 1) := dk_79 (dk_at dksX8_readsRule_3 20 rfl rfl)
theorem dX8_readsRule_91 : decode cX8_readsRule 91 = .ok (.aload_n 0, 1) := dk_42 (dk_at dksX8_readsRule_3 21 rfl rfl)
theorem dX8_readsRule_92 : decode cX8_readsRule 92 = .ok (.iconst 0, 1) := dk_3 (dk_at dksX8_readsRule_3 22 rfl rfl)
theorem dX8_readsRule_93 : decode cX8_readsRule 93 = .ok (.putfield 182, 3) := dk_181 0 182 (dk_at dksX8_readsRule_4 0 rfl rfl)
theorem dX8_readsRule_96 : decode cX8_readsRule 96 = .ok (.aload_n 0, 1) := dk_42 (dk_at dksX8_readsRule_4 3 rfl rfl)
theorem dX8_readsRule_97 : decode cX8_readsRule 97 = .ok (.iconst 0, 1) := dk_3 (dk_at dksX8_readsRule_4 4 rfl rfl)
theorem dX8_readsRule_98 : decode cX8_readsRule 98 = .ok (.putfield 185, 3) := dk_181 0 185 (dk_at dksX8_readsRule_4 5 rfl rfl)
theorem dX8_readsRule_101 : decode cX8_readsRule 101 = .ok (.iload_n 1, 1) := dk_27 (dk_at dksX8_readsRule_4 8 rfl rfl)
theorem dX8_readsRule_102 : decode cX8_readsRule 102 = .ok (.bipush 120, 2) := dk_16 120 (dk_at dksX8_readsRule_4 9 rfl rfl)
theorem dX8_readsRule_104 : decode cX8_readsRule 104 = .ok (.if_icmp .eq 12, 3) := dk_159 0 12 (dk_at dksX8_readsRule_4 11 rfl rfl)
theorem dX8_readsRule_107 : decode cX8_readsRule 107 = .ok (.aload_n 0, 1) := dk_42 (dk_at dksX8_readsRule_4 14 rfl rfl)
theorem dX8_readsRule_108 : decode cX8_readsRule 108 = .ok (.invokevirtual 216, 3) := dk_182 0 216 (dk_at dksX8_readsRule_4 15 rfl rfl)
theorem dX8_readsRule_111 : decode cX8_readsRule 111 = .ok (.ifCond .ne 5, 3) := dk_154 0 5 (dk_at dksX8_readsRule_4 18 rfl rfl)
theorem dX8_readsRule_114 : decode cX8_readsRule 114 = .ok (.iconst 0, 1) := dk_3 (dk_at dksX8_readsRule_4 21 rfl rfl)
theorem dX8_readsRule_115 : decode cX8_readsRule 115 = .ok (.ireturn, 1) := dk_172 (dk_at dksX8_readsRule_4 22 rfl rfl)
theorem dX8_readsRule_116 : decode cX8_readsRule 116 = .ok (.aload_n 0, 1) := dk_42 (dk_at dksX8_readsRule_4 23 rfl rfl)
theorem dX8_readsRule_117 : decode cX8_readsRule 117 = .ok (.getfield 41, 3) := dk_180 0 41 (dk_at dksX8_readsRule_5 0 rfl rfl)
theorem dX8_readsRule_120 : decode cX8_readsRule 120 = .ok (.aload_n 0, 1) := dk_42 (dk_at dksX8_readsRule_5 3 rfl rfl)
theorem dX8_readsRule_121 : decode cX8_readsRule 121 = .ok (.getfield 231, 3) := dk_180 0 231 (dk_at dksX8_readsRule_5 4 rfl rfl)
theorem dX8_readsRule_124 : decode cX8_readsRule 124 = .ok (.aload_n 0, 1) := dk_42 (dk_at dksX8_readsRule_5 7 rfl rfl)
theorem dX8_readsRule_125 : decode cX8_readsRule 125 = .ok (.getfield 178, 3) := dk_180 0 178 (dk_at dksX8_readsRule_5 8 rfl rfl)
theorem dX8_readsRule_128 : decode cX8_readsRule 128 = .ok (.iastore, 1) := dk_79 (dk_at dksX8_readsRule_5 11 rfl rfl)
theorem dX8_readsRule_129 : decode cX8_readsRule 129 = .ok (.aload_n 0, 1) := dk_42 (dk_at dksX8_readsRule_5 12 rfl rfl)
theorem dX8_readsRule_130 : decode cX8_readsRule 130 = .ok (.invokevirtual 234, 3) := dk_182 0 234 (dk_at dksX8_readsRule_5 13 rfl rfl)
theorem dX8_readsRule_133 : decode cX8_readsRule 133 = .ok (.ifCond .ne 5, 3) := dk_154 0 5 (dk_at dksX8_readsRule_5 16 rfl rfl)
theorem dX8_readsRule_136 : decode cX8_readsRule 136 = .ok (.iconst 0, 1) := dk_3 (dk_at dksX8_readsRule_5 19 rfl rfl)
theorem dX8_readsRule_137 : decode cX8_readsRule 137 = .ok (.ireturn, 1) := dk_172 (dk_at dksX8_readsRule_5 20 rfl rfl)
theorem dX8_readsRule_138 : decode cX8_readsRule 138 = .ok (.aload_n 0, 1) := dk_42 (dk_at dksX8_readsRule_5 21 rfl rfl)
theorem dX8_readsRule_139 : decode cX8_readsRule 139 = .ok (.getfield 44, 3) := dk_180 0 44 (dk_at dksX8_readsRule_6 0 rfl rfl)
theorem dX8_readsRule_142 : decode cX8_readsRule 142 = .ok (.aload_n 0, 1) := dk_42 (dk_at dksX8_readsRule_6 3 rfl rfl)
theorem dX8_readsRule_143 : decode cX8_readsRule 143 = .ok (.getfield 231, 3) := dk_180 0 231 (dk_at dksX8_readsRule_6 4 rfl rfl)
theorem dX8_readsRule_146 : decode cX8_readsRule 146 = .ok (.aload_n 0, 1) := dk_42 (dk_at dksX8_readsRule_6 7 rfl rfl)
theorem dX8_readsRule_147 : decode cX8_readsRule 147 = .ok (.getfield 178, 3) := dk_180 0 178 (dk_at dksX8_readsRule_6 8 rfl rfl)
theorem dX8_readsRule_150 : decode cX8_readsRule 150 = .ok (.iastore, 1) := dk_79 (dk_at dksX8_readsRule_6 11 rfl rfl)
theorem dX8_readsRule_151 : decode cX8_readsRule 151 = .ok (.aload_n 0, 1) := dk_42 (dk_at dksX8_readsRule_6 12 rfl rfl)
theorem dX8_readsRule_152 : decode cX8_readsRule 152 = .ok (.aload_n 0, 1) := dk_42 (dk_at dksX8_readsRule_6 13 rfl rfl)
theorem dX8_readsRule_153 : decode cX8_readsRule 153 = .ok (.getfield 231, 3) := dk_180 0 231 (dk_at dksX8_readsRule_6 14 rfl rfl)
theorem dX8_readsRule_156 : decode cX8_readsRule 156 = .ok (.iconst 1, 1) := dk_4 (dk_at dksX8_readsRule_6 17 rfl rfl)
theorem dX8_readsRule_157 : decode cX8_readsRule 157 = .ok (.iadd, 1) := dk_96 (dk_at dksX8_readsRule_6 18 rfl rfl)
theorem dX8_readsRule_158 : decode cX8_readsRule 158 = .ok (.putfield 231, 3) := dk_181 0 231 (dk_at dksX8_readsRule_6 19 rfl rfl)
theorem dX8_readsRule_161 : decode cX8_readsRule 161 = .ok (.iconst 1, 1) := dk_4 (dk_at dksX8_readsRule_6 22 rfl rfl)
theorem dX8_readsRule_162 : decode cX8_readsRule 162 = .ok (.ireturn, 1) := dk_172 (dk_at dksX8_readsRule_6 23 rfl rfl)
abbrev cX8_here : ByteArray := prog_18_method_29_code
def yX8_here : MethodName := ⟨RX8, "here", "()I"⟩
def dkwX8_here_1 : List UInt8 := [167, 0, 4, 2, 172]
abbrev dktX8_here_1 : List UInt8 := dkwX8_here_1 ++ []
def dkwX8_here_0 : List UInt8 := [42, 180, 0, 154, 42, 180, 0, 157, 162, 0, 19, 42, 180, 0, 25, 42, 180, 0, 154, 51, 17, 0, 255, 126]
abbrev dktX8_here_0 : List UInt8 := dkwX8_here_0 ++ dktX8_here_1
theorem dksX8_here_0 : cX8_here.data.toList.drop 0 = dktX8_here_0 := by decide +kernel
theorem dksX8_here_1 : cX8_here.data.toList.drop 24 = dktX8_here_1 := dk_seg dksX8_here_0 24 rfl rfl
theorem dX8_here_0 : decode cX8_here 0 = .ok (.aload_n 0, 1) := dk_42 (dk_at dksX8_here_0 0 rfl rfl)
theorem dX8_here_1 : decode cX8_here 1 = .ok (.getfield 154, 3) := dk_180 0 154 (dk_at dksX8_here_0 1 rfl rfl)
theorem dX8_here_4 : decode cX8_here 4 = .ok (.aload_n 0, 1) := dk_42 (dk_at dksX8_here_0 4 rfl rfl)
theorem dX8_here_5 : decode cX8_here 5 = .ok (.getfield 157, 3) := dk_180 0 157 (dk_at dksX8_here_0 5 rfl rfl)
theorem dX8_here_8 : decode cX8_here 8 = .ok (.if_icmp .ge 19, 3) := dk_162 0 19 (dk_at dksX8_here_0 8 rfl rfl)
theorem dX8_here_11 : decode cX8_here 11 = .ok (.aload_n 0, 1) := dk_42 (dk_at dksX8_here_0 11 rfl rfl)
theorem dX8_here_12 : decode cX8_here 12 = .ok (.getfield 25, 3) := dk_180 0 25 (dk_at dksX8_here_0 12 rfl rfl)
theorem dX8_here_15 : decode cX8_here 15 = .ok (.aload_n 0, 1) := dk_42 (dk_at dksX8_here_0 15 rfl rfl)
theorem dX8_here_16 : decode cX8_here 16 = .ok (.getfield 154, 3) := dk_180 0 154 (dk_at dksX8_here_0 16 rfl rfl)
theorem dX8_here_19 : decode cX8_here 19 = .ok (.baload, 1) := dk_51 (dk_at dksX8_here_0 19 rfl rfl)
theorem dX8_here_20 : decode cX8_here 20 = .ok (.sipush 255, 3) := dk_17 0 255 (dk_at dksX8_here_0 20 rfl rfl)
theorem dX8_here_23 : decode cX8_here 23 = .ok (.iand, 1) := dk_126 (dk_at dksX8_here_0 23 rfl rfl)
theorem dX8_here_24 : decode cX8_here 24 = .ok (.goto 4, 3) := dk_167 0 4 (dk_at dksX8_here_1 0 rfl rfl)
theorem dX8_here_27 : decode cX8_here 27 = .ok (.iconst (-1), 1) := dk_2 (dk_at dksX8_here_1 3 rfl rfl)
theorem dX8_here_28 : decode cX8_here 28 = .ok (.ireturn, 1) := dk_172 (dk_at dksX8_here_1 4 rfl rfl)
abbrev cX8_wrongAt : ByteArray := prog_18_method_31_code
def yX8_wrongAt : MethodName := ⟨RX8, "wrongAt", "(II)Z"⟩
def dkwX8_wrongAt_0 : List UInt8 := [42, 17, 252, 24, 27, 104, 28, 100, 181, 0, 164, 3, 172]
abbrev dktX8_wrongAt_0 : List UInt8 := dkwX8_wrongAt_0 ++ []
theorem dksX8_wrongAt_0 : cX8_wrongAt.data.toList.drop 0 = dktX8_wrongAt_0 := by decide +kernel
theorem dX8_wrongAt_0 : decode cX8_wrongAt 0 = .ok (.aload_n 0, 1) := dk_42 (dk_at dksX8_wrongAt_0 0 rfl rfl)
theorem dX8_wrongAt_1 : decode cX8_wrongAt 1 = .ok (.sipush (-1000), 3) := dk_17 252 24 (dk_at dksX8_wrongAt_0 1 rfl rfl)
theorem dX8_wrongAt_4 : decode cX8_wrongAt 4 = .ok (.iload_n 1, 1) := dk_27 (dk_at dksX8_wrongAt_0 4 rfl rfl)
theorem dX8_wrongAt_5 : decode cX8_wrongAt 5 = .ok (.imul, 1) := dk_104 (dk_at dksX8_wrongAt_0 5 rfl rfl)
theorem dX8_wrongAt_6 : decode cX8_wrongAt 6 = .ok (.iload_n 2, 1) := dk_28 (dk_at dksX8_wrongAt_0 6 rfl rfl)
theorem dX8_wrongAt_7 : decode cX8_wrongAt 7 = .ok (.isub, 1) := dk_100 (dk_at dksX8_wrongAt_0 7 rfl rfl)
theorem dX8_wrongAt_8 : decode cX8_wrongAt 8 = .ok (.putfield 164, 3) := dk_181 0 164 (dk_at dksX8_wrongAt_0 8 rfl rfl)
theorem dX8_wrongAt_11 : decode cX8_wrongAt 11 = .ok (.iconst 0, 1) := dk_3 (dk_at dksX8_wrongAt_0 11 rfl rfl)
theorem dX8_wrongAt_12 : decode cX8_wrongAt 12 = .ok (.ireturn, 1) := dk_172 (dk_at dksX8_wrongAt_0 12 rfl rfl)
abbrev cX8_readsSum : ByteArray := prog_18_method_42_code
def yX8_readsSum : MethodName := ⟨RX8, "readsSum", "()Z"⟩
def dkwX8_readsSum_7 : List UInt8 := [167, 255, 107]
abbrev dktX8_readsSum_7 : List UInt8 := dkwX8_readsSum_7 ++ []
def dkwX8_readsSum_6 : List UInt8 := [182, 0, 213, 153, 0, 13, 42, 4, 42, 180, 0, 154, 182, 0, 167, 172, 42, 4, 182, 0, 209, 4, 172]
abbrev dktX8_readsSum_6 : List UInt8 := dkwX8_readsSum_6 ++ dktX8_readsSum_7
def dkwX8_readsSum_5 : List UInt8 := [180, 0, 182, 4, 100, 181, 0, 182, 42, 42, 180, 0, 154, 4, 96, 181, 0, 154, 167, 0, 28, 42, 27]
abbrev dktX8_readsSum_5 : List UInt8 := dkwX8_readsSum_5 ++ dktX8_readsSum_6
def dkwX8_readsSum_4 : List UInt8 := [182, 0, 213, 153, 0, 41, 42, 4, 182, 0, 209, 42, 42, 180, 0, 185, 4, 100, 181, 0, 185, 42, 42]
abbrev dktX8_readsSum_4 : List UInt8 := dkwX8_readsSum_4 ++ dktX8_readsSum_5
def dkwX8_readsSum_3 : List UInt8 := [96, 181, 0, 154, 42, 182, 0, 203, 154, 0, 85, 3, 172, 42, 182, 0, 160, 16, 93, 160, 0, 49, 42, 27]
abbrev dktX8_readsSum_3 : List UInt8 := dkwX8_readsSum_3 ++ dktX8_readsSum_4
def dkwX8_readsSum_2 : List UInt8 := [180, 0, 185, 18, 181, 28, 104, 79, 42, 42, 180, 0, 185, 4, 96, 181, 0, 185, 42, 42, 180, 0, 154, 4]
abbrev dktX8_readsSum_2 : List UInt8 := dkwX8_readsSum_2 ++ dktX8_readsSum_3
def dkwX8_readsSum_1 : List UInt8 := [159, 0, 59, 42, 28, 7, 162, 0, 7, 4, 167, 0, 4, 3, 182, 0, 209, 42, 180, 0, 32, 42]
abbrev dktX8_readsSum_1 : List UInt8 := dkwX8_readsSum_1 ++ dktX8_readsSum_2
def dkwX8_readsSum_0 : List UInt8 := [42, 180, 0, 185, 60, 42, 182, 0, 203, 154, 0, 5, 3, 172, 42, 182, 0, 160, 184, 0, 206, 61, 28, 2]
abbrev dktX8_readsSum_0 : List UInt8 := dkwX8_readsSum_0 ++ dktX8_readsSum_1
theorem dksX8_readsSum_0 : cX8_readsSum.data.toList.drop 0 = dktX8_readsSum_0 := by decide +kernel
theorem dksX8_readsSum_1 : cX8_readsSum.data.toList.drop 24 = dktX8_readsSum_1 := dk_seg dksX8_readsSum_0 24 rfl rfl
theorem dksX8_readsSum_2 : cX8_readsSum.data.toList.drop 46 = dktX8_readsSum_2 := dk_seg dksX8_readsSum_1 22 rfl rfl
theorem dksX8_readsSum_3 : cX8_readsSum.data.toList.drop 70 = dktX8_readsSum_3 := dk_seg dksX8_readsSum_2 24 rfl rfl
theorem dksX8_readsSum_4 : cX8_readsSum.data.toList.drop 94 = dktX8_readsSum_4 := dk_seg dksX8_readsSum_3 24 rfl rfl
theorem dksX8_readsSum_5 : cX8_readsSum.data.toList.drop 117 = dktX8_readsSum_5 := dk_seg dksX8_readsSum_4 23 rfl rfl
theorem dksX8_readsSum_6 : cX8_readsSum.data.toList.drop 140 = dktX8_readsSum_6 := dk_seg dksX8_readsSum_5 23 rfl rfl
theorem dksX8_readsSum_7 : cX8_readsSum.data.toList.drop 163 = dktX8_readsSum_7 := dk_seg dksX8_readsSum_6 23 rfl rfl
theorem dX8_readsSum_0 : decode cX8_readsSum 0 = .ok (.aload_n 0, 1) := dk_42 (dk_at dksX8_readsSum_0 0 rfl rfl)
theorem dX8_readsSum_1 : decode cX8_readsSum 1 = .ok (.getfield 185, 3) := dk_180 0 185 (dk_at dksX8_readsSum_0 1 rfl rfl)
theorem dX8_readsSum_4 : decode cX8_readsSum 4 = .ok (.istore_n 1, 1) := dk_60 (dk_at dksX8_readsSum_0 4 rfl rfl)
theorem dX8_readsSum_5 : decode cX8_readsSum 5 = .ok (.aload_n 0, 1) := dk_42 (dk_at dksX8_readsSum_0 5 rfl rfl)
theorem dX8_readsSum_6 : decode cX8_readsSum 6 = .ok (.invokevirtual 203, 3) := dk_182 0 203 (dk_at dksX8_readsSum_0 6 rfl rfl)
theorem dX8_readsSum_9 : decode cX8_readsSum 9 = .ok (.ifCond .ne 5, 3) := dk_154 0 5 (dk_at dksX8_readsSum_0 9 rfl rfl)
theorem dX8_readsSum_12 : decode cX8_readsSum 12 = .ok (.iconst 0, 1) := dk_3 (dk_at dksX8_readsSum_0 12 rfl rfl)
theorem dX8_readsSum_13 : decode cX8_readsSum 13 = .ok (.ireturn, 1) := dk_172 (dk_at dksX8_readsSum_0 13 rfl rfl)
theorem dX8_readsSum_14 : decode cX8_readsSum 14 = .ok (.aload_n 0, 1) := dk_42 (dk_at dksX8_readsSum_0 14 rfl rfl)
theorem dX8_readsSum_15 : decode cX8_readsSum 15 = .ok (.invokevirtual 160, 3) := dk_182 0 160 (dk_at dksX8_readsSum_0 15 rfl rfl)
theorem dX8_readsSum_18 : decode cX8_readsSum 18 = .ok (.invokestatic 206, 3) := dk_184 0 206 (dk_at dksX8_readsSum_0 18 rfl rfl)
theorem dX8_readsSum_21 : decode cX8_readsSum 21 = .ok (.istore_n 2, 1) := dk_61 (dk_at dksX8_readsSum_0 21 rfl rfl)
theorem dX8_readsSum_22 : decode cX8_readsSum 22 = .ok (.iload_n 2, 1) := dk_28 (dk_at dksX8_readsSum_0 22 rfl rfl)
theorem dX8_readsSum_23 : decode cX8_readsSum 23 = .ok (.iconst (-1), 1) := dk_2 (dk_at dksX8_readsSum_0 23 rfl rfl)
theorem dX8_readsSum_24 : decode cX8_readsSum 24 = .ok (.if_icmp .eq 59, 3) := dk_159 0 59 (dk_at dksX8_readsSum_1 0 rfl rfl)
theorem dX8_readsSum_27 : decode cX8_readsSum 27 = .ok (.aload_n 0, 1) := dk_42 (dk_at dksX8_readsSum_1 3 rfl rfl)
theorem dX8_readsSum_28 : decode cX8_readsSum 28 = .ok (.iload_n 2, 1) := dk_28 (dk_at dksX8_readsSum_1 4 rfl rfl)
theorem dX8_readsSum_29 : decode cX8_readsSum 29 = .ok (.iconst 4, 1) := dk_7 (dk_at dksX8_readsSum_1 5 rfl rfl)
theorem dX8_readsSum_30 : decode cX8_readsSum 30 = .ok (.if_icmp .ge 7, 3) := dk_162 0 7 (dk_at dksX8_readsSum_1 6 rfl rfl)
theorem dX8_readsSum_33 : decode cX8_readsSum 33 = .ok (.iconst 1, 1) := dk_4 (dk_at dksX8_readsSum_1 9 rfl rfl)
theorem dX8_readsSum_34 : decode cX8_readsSum 34 = .ok (.goto 4, 3) := dk_167 0 4 (dk_at dksX8_readsSum_1 10 rfl rfl)
theorem dX8_readsSum_37 : decode cX8_readsSum 37 = .ok (.iconst 0, 1) := dk_3 (dk_at dksX8_readsSum_1 13 rfl rfl)
theorem dX8_readsSum_38 : decode cX8_readsSum 38 = .ok (.invokevirtual 209, 3) := dk_182 0 209 (dk_at dksX8_readsSum_1 14 rfl rfl)
theorem dX8_readsSum_41 : decode cX8_readsSum 41 = .ok (.aload_n 0, 1) := dk_42 (dk_at dksX8_readsSum_1 17 rfl rfl)
theorem dX8_readsSum_42 : decode cX8_readsSum 42 = .ok (.getfield 32, 3) := dk_180 0 32 (dk_at dksX8_readsSum_1 18 rfl rfl)
theorem dX8_readsSum_45 : decode cX8_readsSum 45 = .ok (.aload_n 0, 1) := dk_42 (dk_at dksX8_readsSum_1 21 rfl rfl)
theorem dX8_readsSum_46 : decode cX8_readsSum 46 = .ok (.getfield 185, 3) := dk_180 0 185 (dk_at dksX8_readsSum_2 0 rfl rfl)
theorem dX8_readsSum_49 : decode cX8_readsSum 49 = .ok (.ldc 181, 2) := dk_18 181 (dk_at dksX8_readsSum_2 3 rfl rfl)
theorem dX8_readsSum_51 : decode cX8_readsSum 51 = .ok (.iload_n 2, 1) := dk_28 (dk_at dksX8_readsSum_2 5 rfl rfl)
theorem dX8_readsSum_52 : decode cX8_readsSum 52 = .ok (.imul, 1) := dk_104 (dk_at dksX8_readsSum_2 6 rfl rfl)
theorem dX8_readsSum_53 : decode cX8_readsSum 53 = .ok (.iastore, 1) := dk_79 (dk_at dksX8_readsSum_2 7 rfl rfl)
theorem dX8_readsSum_54 : decode cX8_readsSum 54 = .ok (.aload_n 0, 1) := dk_42 (dk_at dksX8_readsSum_2 8 rfl rfl)
theorem dX8_readsSum_55 : decode cX8_readsSum 55 = .ok (.aload_n 0, 1) := dk_42 (dk_at dksX8_readsSum_2 9 rfl rfl)
theorem dX8_readsSum_56 : decode cX8_readsSum 56 = .ok (.getfield 185, 3) := dk_180 0 185 (dk_at dksX8_readsSum_2 10 rfl rfl)
theorem dX8_readsSum_59 : decode cX8_readsSum 59 = .ok (.iconst 1, 1) := dk_4 (dk_at dksX8_readsSum_2 13 rfl rfl)
theorem dX8_readsSum_60 : decode cX8_readsSum 60 = .ok (.iadd, 1) := dk_96 (dk_at dksX8_readsSum_2 14 rfl rfl)
theorem dX8_readsSum_61 : decode cX8_readsSum 61 = .ok (.putfield 185, 3) := dk_181 0 185 (dk_at dksX8_readsSum_2 15 rfl rfl)
theorem dX8_readsSum_64 : decode cX8_readsSum 64 = .ok (.aload_n 0, 1) := dk_42 (dk_at dksX8_readsSum_2 18 rfl rfl)
theorem dX8_readsSum_65 : decode cX8_readsSum 65 = .ok (.aload_n 0, 1) := dk_42 (dk_at dksX8_readsSum_2 19 rfl rfl)
theorem dX8_readsSum_66 : decode cX8_readsSum 66 = .ok (.getfield 154, 3) := dk_180 0 154 (dk_at dksX8_readsSum_2 20 rfl rfl)
theorem dX8_readsSum_69 : decode cX8_readsSum 69 = .ok (.iconst 1, 1) := dk_4 (dk_at dksX8_readsSum_2 23 rfl rfl)
theorem dX8_readsSum_70 : decode cX8_readsSum 70 = .ok (.iadd, 1) := dk_96 (dk_at dksX8_readsSum_3 0 rfl rfl)
theorem dX8_readsSum_71 : decode cX8_readsSum 71 = .ok (.putfield 154, 3) := dk_181 0 154 (dk_at dksX8_readsSum_3 1 rfl rfl)
theorem dX8_readsSum_74 : decode cX8_readsSum 74 = .ok (.aload_n 0, 1) := dk_42 (dk_at dksX8_readsSum_3 4 rfl rfl)
theorem dX8_readsSum_75 : decode cX8_readsSum 75 = .ok (.invokevirtual 203, 3) := dk_182 0 203 (dk_at dksX8_readsSum_3 5 rfl rfl)
theorem dX8_readsSum_78 : decode cX8_readsSum 78 = .ok (.ifCond .ne 85, 3) := dk_154 0 85 (dk_at dksX8_readsSum_3 8 rfl rfl)
theorem dX8_readsSum_81 : decode cX8_readsSum 81 = .ok (.iconst 0, 1) := dk_3 (dk_at dksX8_readsSum_3 11 rfl rfl)
theorem dX8_readsSum_82 : decode cX8_readsSum 82 = .ok (.ireturn, 1) := dk_172 (dk_at dksX8_readsSum_3 12 rfl rfl)
theorem dX8_readsSum_83 : decode cX8_readsSum 83 = .ok (.aload_n 0, 1) := dk_42 (dk_at dksX8_readsSum_3 13 rfl rfl)
theorem dX8_readsSum_84 : decode cX8_readsSum 84 = .ok (.invokevirtual 160, 3) := dk_182 0 160 (dk_at dksX8_readsSum_3 14 rfl rfl)
theorem dX8_readsSum_87 : decode cX8_readsSum 87 = .ok (.bipush 93, 2) := dk_16 93 (dk_at dksX8_readsSum_3 17 rfl rfl)
theorem dX8_readsSum_89 : decode cX8_readsSum 89 = .ok (.if_icmp .ne 49, 3) := dk_160 0 49 (dk_at dksX8_readsSum_3 19 rfl rfl)
theorem dX8_readsSum_92 : decode cX8_readsSum 92 = .ok (.aload_n 0, 1) := dk_42 (dk_at dksX8_readsSum_3 22 rfl rfl)
theorem dX8_readsSum_93 : decode cX8_readsSum 93 = .ok (.iload_n 1, 1) := dk_27 (dk_at dksX8_readsSum_3 23 rfl rfl)
theorem dX8_readsSum_94 : decode cX8_readsSum 94 = .ok (.invokevirtual 213, 3) := dk_182 0 213 (dk_at dksX8_readsSum_4 0 rfl rfl)
theorem dX8_readsSum_97 : decode cX8_readsSum 97 = .ok (.ifCond .eq 41, 3) := dk_153 0 41 (dk_at dksX8_readsSum_4 3 rfl rfl)
theorem dX8_readsSum_100 : decode cX8_readsSum 100 = .ok (.aload_n 0, 1) := dk_42 (dk_at dksX8_readsSum_4 6 rfl rfl)
theorem dX8_readsSum_101 : decode cX8_readsSum 101 = .ok (.iconst 1, 1) := dk_4 (dk_at dksX8_readsSum_4 7 rfl rfl)
theorem dX8_readsSum_102 : decode cX8_readsSum 102 = .ok (.invokevirtual 209, 3) := dk_182 0 209 (dk_at dksX8_readsSum_4 8 rfl rfl)
theorem dX8_readsSum_105 : decode cX8_readsSum 105 = .ok (.aload_n 0, 1) := dk_42 (dk_at dksX8_readsSum_4 11 rfl rfl)
theorem dX8_readsSum_106 : decode cX8_readsSum 106 = .ok (.aload_n 0, 1) := dk_42 (dk_at dksX8_readsSum_4 12 rfl rfl)
theorem dX8_readsSum_107 : decode cX8_readsSum 107 = .ok (.getfield 185, 3) := dk_180 0 185 (dk_at dksX8_readsSum_4 13 rfl rfl)
theorem dX8_readsSum_110 : decode cX8_readsSum 110 = .ok (.iconst 1, 1) := dk_4 (dk_at dksX8_readsSum_4 16 rfl rfl)
theorem dX8_readsSum_111 : decode cX8_readsSum 111 = .ok (.isub, 1) := dk_100 (dk_at dksX8_readsSum_4 17 rfl rfl)
theorem dX8_readsSum_112 : decode cX8_readsSum 112 = .ok (.putfield 185, 3) := dk_181 0 185 (dk_at dksX8_readsSum_4 18 rfl rfl)
theorem dX8_readsSum_115 : decode cX8_readsSum 115 = .ok (.aload_n 0, 1) := dk_42 (dk_at dksX8_readsSum_4 21 rfl rfl)
theorem dX8_readsSum_116 : decode cX8_readsSum 116 = .ok (.aload_n 0, 1) := dk_42 (dk_at dksX8_readsSum_4 22 rfl rfl)
theorem dX8_readsSum_117 : decode cX8_readsSum 117 = .ok (.getfield 182, 3) := dk_180 0 182 (dk_at dksX8_readsSum_5 0 rfl rfl)
theorem dX8_readsSum_120 : decode cX8_readsSum 120 = .ok (.iconst 1, 1) := dk_4 (dk_at dksX8_readsSum_5 3 rfl rfl)
theorem dX8_readsSum_121 : decode cX8_readsSum 121 = .ok (.isub, 1) := dk_100 (dk_at dksX8_readsSum_5 4 rfl rfl)
theorem dX8_readsSum_122 : decode cX8_readsSum 122 = .ok (.putfield 182, 3) := dk_181 0 182 (dk_at dksX8_readsSum_5 5 rfl rfl)
theorem dX8_readsSum_125 : decode cX8_readsSum 125 = .ok (.aload_n 0, 1) := dk_42 (dk_at dksX8_readsSum_5 8 rfl rfl)
theorem dX8_readsSum_126 : decode cX8_readsSum 126 = .ok (.aload_n 0, 1) := dk_42 (dk_at dksX8_readsSum_5 9 rfl rfl)
theorem dX8_readsSum_127 : decode cX8_readsSum 127 = .ok (.getfield 154, 3) := dk_180 0 154 (dk_at dksX8_readsSum_5 10 rfl rfl)
theorem dX8_readsSum_130 : decode cX8_readsSum 130 = .ok (.iconst 1, 1) := dk_4 (dk_at dksX8_readsSum_5 13 rfl rfl)
theorem dX8_readsSum_131 : decode cX8_readsSum 131 = .ok (.iadd, 1) := dk_96 (dk_at dksX8_readsSum_5 14 rfl rfl)
theorem dX8_readsSum_132 : decode cX8_readsSum 132 = .ok (.putfield 154, 3) := dk_181 0 154 (dk_at dksX8_readsSum_5 15 rfl rfl)
theorem dX8_readsSum_135 : decode cX8_readsSum 135 = .ok (.goto 28, 3) := dk_167 0 28 (dk_at dksX8_readsSum_5 18 rfl rfl)
theorem dX8_readsSum_138 : decode cX8_readsSum 138 = .ok (.aload_n 0, 1) := dk_42 (dk_at dksX8_readsSum_5 21 rfl rfl)
theorem dX8_readsSum_139 : decode cX8_readsSum 139 = .ok (.iload_n 1, 1) := dk_27 (dk_at dksX8_readsSum_5 22 rfl rfl)
theorem dX8_readsSum_140 : decode cX8_readsSum 140 = .ok (.invokevirtual 213, 3) := dk_182 0 213 (dk_at dksX8_readsSum_6 0 rfl rfl)
theorem dX8_readsSum_143 : decode cX8_readsSum 143 = .ok (.ifCond .eq 13, 3) := dk_153 0 13 (dk_at dksX8_readsSum_6 3 rfl rfl)
theorem dX8_readsSum_146 : decode cX8_readsSum 146 = .ok (.aload_n 0, 1) := dk_42 (dk_at dksX8_readsSum_6 6 rfl rfl)
theorem dX8_readsSum_147 : decode cX8_readsSum 147 = .ok (.iconst 1, 1) := dk_4 (dk_at dksX8_readsSum_6 7 rfl rfl)
theorem dX8_readsSum_148 : decode cX8_readsSum 148 = .ok (.aload_n 0, 1) := dk_42 (dk_at dksX8_readsSum_6 8 rfl rfl)
theorem dX8_readsSum_149 : decode cX8_readsSum 149 = .ok (.getfield 154, 3) := dk_180 0 154 (dk_at dksX8_readsSum_6 9 rfl rfl)
theorem dX8_readsSum_152 : decode cX8_readsSum 152 = .ok (.invokevirtual 167, 3) := dk_182 0 167 (dk_at dksX8_readsSum_6 12 rfl rfl)
theorem dX8_readsSum_155 : decode cX8_readsSum 155 = .ok (.ireturn, 1) := dk_172 (dk_at dksX8_readsSum_6 15 rfl rfl)
theorem dX8_readsSum_156 : decode cX8_readsSum 156 = .ok (.aload_n 0, 1) := dk_42 (dk_at dksX8_readsSum_6 16 rfl rfl)
theorem dX8_readsSum_157 : decode cX8_readsSum 157 = .ok (.iconst 1, 1) := dk_4 (dk_at dksX8_readsSum_6 17 rfl rfl)
theorem dX8_readsSum_158 : decode cX8_readsSum 158 = .ok (.invokevirtual 209, 3) := dk_182 0 209 (dk_at dksX8_readsSum_6 18 rfl rfl)
theorem dX8_readsSum_161 : decode cX8_readsSum 161 = .ok (.iconst 1, 1) := dk_4 (dk_at dksX8_readsSum_6 21 rfl rfl)
theorem dX8_readsSum_162 : decode cX8_readsSum 162 = .ok (.ireturn, 1) := dk_172 (dk_at dksX8_readsSum_6 22 rfl rfl)
theorem dX8_readsSum_163 : decode cX8_readsSum 163 = .ok (.goto (-149), 3) := dk_167 255 107 (dk_at dksX8_readsSum_7 0 rfl rfl)
abbrev cX8_readsFactor : ByteArray := prog_18_method_40_code
def yX8_readsFactor : MethodName := ⟨RX8, "readsFactor", "()Z"⟩
def dkwX8_readsFactor_3 : List UInt8 := [27, 182, 0, 191, 42, 42, 180, 0, 154, 4, 96, 181, 0, 154, 4, 172]
abbrev dktX8_readsFactor_3 : List UInt8 := dkwX8_readsFactor_3 ++ []
def dkwX8_readsFactor_2 : List UInt8 := [182, 0, 160, 184, 0, 200, 60, 27, 2, 160, 0, 13, 42, 4, 42, 180, 0, 154, 182, 0, 167, 172, 42, 4]
abbrev dktX8_readsFactor_2 : List UInt8 := dkwX8_readsFactor_2 ++ dktX8_readsFactor_3
def dkwX8_readsFactor_1 : List UInt8 := [153, 0, 23, 42, 182, 0, 197, 154, 0, 5, 3, 172, 42, 3, 42, 180, 0, 171, 182, 0, 191, 4, 172, 42]
abbrev dktX8_readsFactor_1 : List UInt8 := dkwX8_readsFactor_1 ++ dktX8_readsFactor_2
def dkwX8_readsFactor_0 : List UInt8 := [42, 182, 0, 160, 16, 91, 160, 0, 14, 42, 16, 14, 182, 0, 194, 154, 255, 241, 3, 172, 42, 182, 0, 174]
abbrev dktX8_readsFactor_0 : List UInt8 := dkwX8_readsFactor_0 ++ dktX8_readsFactor_1
theorem dksX8_readsFactor_0 : cX8_readsFactor.data.toList.drop 0 = dktX8_readsFactor_0 := by decide +kernel
theorem dksX8_readsFactor_1 : cX8_readsFactor.data.toList.drop 24 = dktX8_readsFactor_1 := dk_seg dksX8_readsFactor_0 24 rfl rfl
theorem dksX8_readsFactor_2 : cX8_readsFactor.data.toList.drop 48 = dktX8_readsFactor_2 := dk_seg dksX8_readsFactor_1 24 rfl rfl
theorem dksX8_readsFactor_3 : cX8_readsFactor.data.toList.drop 72 = dktX8_readsFactor_3 := dk_seg dksX8_readsFactor_2 24 rfl rfl
theorem dX8_readsFactor_0 : decode cX8_readsFactor 0 = .ok (.aload_n 0, 1) := dk_42 (dk_at dksX8_readsFactor_0 0 rfl rfl)
theorem dX8_readsFactor_1 : decode cX8_readsFactor 1 = .ok (.invokevirtual 160, 3) := dk_182 0 160 (dk_at dksX8_readsFactor_0 1 rfl rfl)
theorem dX8_readsFactor_4 : decode cX8_readsFactor 4 = .ok (.bipush 91, 2) := dk_16 91 (dk_at dksX8_readsFactor_0 4 rfl rfl)
theorem dX8_readsFactor_6 : decode cX8_readsFactor 6 = .ok (.if_icmp .ne 14, 3) := dk_160 0 14 (dk_at dksX8_readsFactor_0 6 rfl rfl)
theorem dX8_readsFactor_9 : decode cX8_readsFactor 9 = .ok (.aload_n 0, 1) := dk_42 (dk_at dksX8_readsFactor_0 9 rfl rfl)
theorem dX8_readsFactor_10 : decode cX8_readsFactor 10 = .ok (.bipush 14, 2) := dk_16 14 (dk_at dksX8_readsFactor_0 10 rfl rfl)
theorem dX8_readsFactor_12 : decode cX8_readsFactor 12 = .ok (.invokevirtual 194, 3) := dk_182 0 194 (dk_at dksX8_readsFactor_0 12 rfl rfl)
theorem dX8_readsFactor_15 : decode cX8_readsFactor 15 = .ok (.ifCond .ne (-15), 3) := dk_154 255 241 (dk_at dksX8_readsFactor_0 15 rfl rfl)
theorem dX8_readsFactor_18 : decode cX8_readsFactor 18 = .ok (.iconst 0, 1) := dk_3 (dk_at dksX8_readsFactor_0 18 rfl rfl)
theorem dX8_readsFactor_19 : decode cX8_readsFactor 19 = .ok (.ireturn, 1) := dk_172 (dk_at dksX8_readsFactor_0 19 rfl rfl)
theorem dX8_readsFactor_20 : decode cX8_readsFactor 20 = .ok (.aload_n 0, 1) := dk_42 (dk_at dksX8_readsFactor_0 20 rfl rfl)
theorem dX8_readsFactor_21 : decode cX8_readsFactor 21 = .ok (.invokevirtual 174, 3) := dk_182 0 174 (dk_at dksX8_readsFactor_0 21 rfl rfl)
theorem dX8_readsFactor_24 : decode cX8_readsFactor 24 = .ok (.ifCond .eq 23, 3) := dk_153 0 23 (dk_at dksX8_readsFactor_1 0 rfl rfl)
theorem dX8_readsFactor_27 : decode cX8_readsFactor 27 = .ok (.aload_n 0, 1) := dk_42 (dk_at dksX8_readsFactor_1 3 rfl rfl)
theorem dX8_readsFactor_28 : decode cX8_readsFactor 28 = .ok (.invokevirtual 197, 3) := dk_182 0 197 (dk_at dksX8_readsFactor_1 4 rfl rfl)
theorem dX8_readsFactor_31 : decode cX8_readsFactor 31 = .ok (.ifCond .ne 5, 3) := dk_154 0 5 (dk_at dksX8_readsFactor_1 7 rfl rfl)
theorem dX8_readsFactor_34 : decode cX8_readsFactor 34 = .ok (.iconst 0, 1) := dk_3 (dk_at dksX8_readsFactor_1 10 rfl rfl)
theorem dX8_readsFactor_35 : decode cX8_readsFactor 35 = .ok (.ireturn, 1) := dk_172 (dk_at dksX8_readsFactor_1 11 rfl rfl)
theorem dX8_readsFactor_36 : decode cX8_readsFactor 36 = .ok (.aload_n 0, 1) := dk_42 (dk_at dksX8_readsFactor_1 12 rfl rfl)
theorem dX8_readsFactor_37 : decode cX8_readsFactor 37 = .ok (.iconst 0, 1) := dk_3 (dk_at dksX8_readsFactor_1 13 rfl rfl)
theorem dX8_readsFactor_38 : decode cX8_readsFactor 38 = .ok (.aload_n 0, 1) := dk_42 (dk_at dksX8_readsFactor_1 14 rfl rfl)
theorem dX8_readsFactor_39 : decode cX8_readsFactor 39 = .ok (.getfield 171, 3) := dk_180 0 171 (dk_at dksX8_readsFactor_1 15 rfl rfl)
theorem dX8_readsFactor_42 : decode cX8_readsFactor 42 = .ok (.invokevirtual 191, 3) := dk_182 0 191 (dk_at dksX8_readsFactor_1 18 rfl rfl)
theorem dX8_readsFactor_45 : decode cX8_readsFactor 45 = .ok (.iconst 1, 1) := dk_4 (dk_at dksX8_readsFactor_1 21 rfl rfl)
theorem dX8_readsFactor_46 : decode cX8_readsFactor 46 = .ok (.ireturn, 1) := dk_172 (dk_at dksX8_readsFactor_1 22 rfl rfl)
theorem dX8_readsFactor_47 : decode cX8_readsFactor 47 = .ok (.aload_n 0, 1) := dk_42 (dk_at dksX8_readsFactor_1 23 rfl rfl)
theorem dX8_readsFactor_48 : decode cX8_readsFactor 48 = .ok (.invokevirtual 160, 3) := dk_182 0 160 (dk_at dksX8_readsFactor_2 0 rfl rfl)
theorem dX8_readsFactor_51 : decode cX8_readsFactor 51 = .ok (.invokestatic 200, 3) := dk_184 0 200 (dk_at dksX8_readsFactor_2 3 rfl rfl)
theorem dX8_readsFactor_54 : decode cX8_readsFactor 54 = .ok (.istore_n 1, 1) := dk_60 (dk_at dksX8_readsFactor_2 6 rfl rfl)
theorem dX8_readsFactor_55 : decode cX8_readsFactor 55 = .ok (.iload_n 1, 1) := dk_27 (dk_at dksX8_readsFactor_2 7 rfl rfl)
theorem dX8_readsFactor_56 : decode cX8_readsFactor 56 = .ok (.iconst (-1), 1) := dk_2 (dk_at dksX8_readsFactor_2 8 rfl rfl)
theorem dX8_readsFactor_57 : decode cX8_readsFactor 57 = .ok (.if_icmp .ne 13, 3) := dk_160 0 13 (dk_at dksX8_readsFactor_2 9 rfl rfl)
theorem dX8_readsFactor_60 : decode cX8_readsFactor 60 = .ok (.aload_n 0, 1) := dk_42 (dk_at dksX8_readsFactor_2 12 rfl rfl)
theorem dX8_readsFactor_61 : decode cX8_readsFactor 61 = .ok (.iconst 1, 1) := dk_4 (dk_at dksX8_readsFactor_2 13 rfl rfl)
theorem dX8_readsFactor_62 : decode cX8_readsFactor 62 = .ok (.aload_n 0, 1) := dk_42 (dk_at dksX8_readsFactor_2 14 rfl rfl)
theorem dX8_readsFactor_63 : decode cX8_readsFactor 63 = .ok (.getfield 154, 3) := dk_180 0 154 (dk_at dksX8_readsFactor_2 15 rfl rfl)
theorem dX8_readsFactor_66 : decode cX8_readsFactor 66 = .ok (.invokevirtual 167, 3) := dk_182 0 167 (dk_at dksX8_readsFactor_2 18 rfl rfl)
theorem dX8_readsFactor_69 : decode cX8_readsFactor 69 = .ok (.ireturn, 1) := dk_172 (dk_at dksX8_readsFactor_2 21 rfl rfl)
theorem dX8_readsFactor_70 : decode cX8_readsFactor 70 = .ok (.aload_n 0, 1) := dk_42 (dk_at dksX8_readsFactor_2 22 rfl rfl)
theorem dX8_readsFactor_71 : decode cX8_readsFactor 71 = .ok (.iconst 1, 1) := dk_4 (dk_at dksX8_readsFactor_2 23 rfl rfl)
theorem dX8_readsFactor_72 : decode cX8_readsFactor 72 = .ok (.iload_n 1, 1) := dk_27 (dk_at dksX8_readsFactor_3 0 rfl rfl)
theorem dX8_readsFactor_73 : decode cX8_readsFactor 73 = .ok (.invokevirtual 191, 3) := dk_182 0 191 (dk_at dksX8_readsFactor_3 1 rfl rfl)
theorem dX8_readsFactor_76 : decode cX8_readsFactor 76 = .ok (.aload_n 0, 1) := dk_42 (dk_at dksX8_readsFactor_3 4 rfl rfl)
theorem dX8_readsFactor_77 : decode cX8_readsFactor 77 = .ok (.aload_n 0, 1) := dk_42 (dk_at dksX8_readsFactor_3 5 rfl rfl)
theorem dX8_readsFactor_78 : decode cX8_readsFactor 78 = .ok (.getfield 154, 3) := dk_180 0 154 (dk_at dksX8_readsFactor_3 6 rfl rfl)
theorem dX8_readsFactor_81 : decode cX8_readsFactor 81 = .ok (.iconst 1, 1) := dk_4 (dk_at dksX8_readsFactor_3 9 rfl rfl)
theorem dX8_readsFactor_82 : decode cX8_readsFactor 82 = .ok (.iadd, 1) := dk_96 (dk_at dksX8_readsFactor_3 10 rfl rfl)
theorem dX8_readsFactor_83 : decode cX8_readsFactor 83 = .ok (.putfield 154, 3) := dk_181 0 154 (dk_at dksX8_readsFactor_3 11 rfl rfl)
theorem dX8_readsFactor_86 : decode cX8_readsFactor 86 = .ok (.iconst 1, 1) := dk_4 (dk_at dksX8_readsFactor_3 14 rfl rfl)
theorem dX8_readsFactor_87 : decode cX8_readsFactor 87 = .ok (.ireturn, 1) := dk_172 (dk_at dksX8_readsFactor_3 15 rfl rfl)
abbrev cX8_opens : ByteArray := prog_18_method_35_code
def yX8_opens : MethodName := ⟨RX8, "opens", "(I)Z"⟩
def dkwX8_opens_2 : List UInt8 := [96, 181, 0, 185, 42, 42, 180, 0, 154, 4, 96, 181, 0, 154, 4, 172]
abbrev dktX8_opens_2 : List UInt8 := dkwX8_opens_2 ++ []
def dkwX8_opens_1 : List UInt8 := [4, 96, 181, 0, 182, 42, 180, 0, 32, 42, 180, 0, 185, 18, 181, 27, 104, 79, 42, 42, 180, 0, 185, 4]
abbrev dktX8_opens_1 : List UInt8 := dkwX8_opens_1 ++ dktX8_opens_2
def dkwX8_opens_0 : List UInt8 := [42, 180, 0, 182, 16, 6, 160, 0, 13, 42, 8, 42, 180, 0, 154, 182, 0, 167, 172, 42, 42, 180, 0, 182]
abbrev dktX8_opens_0 : List UInt8 := dkwX8_opens_0 ++ dktX8_opens_1
theorem dksX8_opens_0 : cX8_opens.data.toList.drop 0 = dktX8_opens_0 := by decide +kernel
theorem dksX8_opens_1 : cX8_opens.data.toList.drop 24 = dktX8_opens_1 := dk_seg dksX8_opens_0 24 rfl rfl
theorem dksX8_opens_2 : cX8_opens.data.toList.drop 48 = dktX8_opens_2 := dk_seg dksX8_opens_1 24 rfl rfl
theorem dX8_opens_0 : decode cX8_opens 0 = .ok (.aload_n 0, 1) := dk_42 (dk_at dksX8_opens_0 0 rfl rfl)
theorem dX8_opens_1 : decode cX8_opens 1 = .ok (.getfield 182, 3) := dk_180 0 182 (dk_at dksX8_opens_0 1 rfl rfl)
theorem dX8_opens_4 : decode cX8_opens 4 = .ok (.bipush 6, 2) := dk_16 6 (dk_at dksX8_opens_0 4 rfl rfl)
theorem dX8_opens_6 : decode cX8_opens 6 = .ok (.if_icmp .ne 13, 3) := dk_160 0 13 (dk_at dksX8_opens_0 6 rfl rfl)
theorem dX8_opens_9 : decode cX8_opens 9 = .ok (.aload_n 0, 1) := dk_42 (dk_at dksX8_opens_0 9 rfl rfl)
theorem dX8_opens_10 : decode cX8_opens 10 = .ok (.iconst 5, 1) := dk_8 (dk_at dksX8_opens_0 10 rfl rfl)
theorem dX8_opens_11 : decode cX8_opens 11 = .ok (.aload_n 0, 1) := dk_42 (dk_at dksX8_opens_0 11 rfl rfl)
theorem dX8_opens_12 : decode cX8_opens 12 = .ok (.getfield 154, 3) := dk_180 0 154 (dk_at dksX8_opens_0 12 rfl rfl)
theorem dX8_opens_15 : decode cX8_opens 15 = .ok (.invokevirtual 167, 3) := dk_182 0 167 (dk_at dksX8_opens_0 15 rfl rfl)
theorem dX8_opens_18 : decode cX8_opens 18 = .ok (.ireturn, 1) := dk_172 (dk_at dksX8_opens_0 18 rfl rfl)
theorem dX8_opens_19 : decode cX8_opens 19 = .ok (.aload_n 0, 1) := dk_42 (dk_at dksX8_opens_0 19 rfl rfl)
theorem dX8_opens_20 : decode cX8_opens 20 = .ok (.aload_n 0, 1) := dk_42 (dk_at dksX8_opens_0 20 rfl rfl)
theorem dX8_opens_21 : decode cX8_opens 21 = .ok (.getfield 182, 3) := dk_180 0 182 (dk_at dksX8_opens_0 21 rfl rfl)
theorem dX8_opens_24 : decode cX8_opens 24 = .ok (.iconst 1, 1) := dk_4 (dk_at dksX8_opens_1 0 rfl rfl)
theorem dX8_opens_25 : decode cX8_opens 25 = .ok (.iadd, 1) := dk_96 (dk_at dksX8_opens_1 1 rfl rfl)
theorem dX8_opens_26 : decode cX8_opens 26 = .ok (.putfield 182, 3) := dk_181 0 182 (dk_at dksX8_opens_1 2 rfl rfl)
theorem dX8_opens_29 : decode cX8_opens 29 = .ok (.aload_n 0, 1) := dk_42 (dk_at dksX8_opens_1 5 rfl rfl)
theorem dX8_opens_30 : decode cX8_opens 30 = .ok (.getfield 32, 3) := dk_180 0 32 (dk_at dksX8_opens_1 6 rfl rfl)
theorem dX8_opens_33 : decode cX8_opens 33 = .ok (.aload_n 0, 1) := dk_42 (dk_at dksX8_opens_1 9 rfl rfl)
theorem dX8_opens_34 : decode cX8_opens 34 = .ok (.getfield 185, 3) := dk_180 0 185 (dk_at dksX8_opens_1 10 rfl rfl)
theorem dX8_opens_37 : decode cX8_opens 37 = .ok (.ldc 181, 2) := dk_18 181 (dk_at dksX8_opens_1 13 rfl rfl)
theorem dX8_opens_39 : decode cX8_opens 39 = .ok (.iload_n 1, 1) := dk_27 (dk_at dksX8_opens_1 15 rfl rfl)
theorem dX8_opens_40 : decode cX8_opens 40 = .ok (.imul, 1) := dk_104 (dk_at dksX8_opens_1 16 rfl rfl)
theorem dX8_opens_41 : decode cX8_opens 41 = .ok (.iastore, 1) := dk_79 (dk_at dksX8_opens_1 17 rfl rfl)
theorem dX8_opens_42 : decode cX8_opens 42 = .ok (.aload_n 0, 1) := dk_42 (dk_at dksX8_opens_1 18 rfl rfl)
theorem dX8_opens_43 : decode cX8_opens 43 = .ok (.aload_n 0, 1) := dk_42 (dk_at dksX8_opens_1 19 rfl rfl)
theorem dX8_opens_44 : decode cX8_opens 44 = .ok (.getfield 185, 3) := dk_180 0 185 (dk_at dksX8_opens_1 20 rfl rfl)
theorem dX8_opens_47 : decode cX8_opens 47 = .ok (.iconst 1, 1) := dk_4 (dk_at dksX8_opens_1 23 rfl rfl)
theorem dX8_opens_48 : decode cX8_opens 48 = .ok (.iadd, 1) := dk_96 (dk_at dksX8_opens_2 0 rfl rfl)
theorem dX8_opens_49 : decode cX8_opens 49 = .ok (.putfield 185, 3) := dk_181 0 185 (dk_at dksX8_opens_2 1 rfl rfl)
theorem dX8_opens_52 : decode cX8_opens 52 = .ok (.aload_n 0, 1) := dk_42 (dk_at dksX8_opens_2 4 rfl rfl)
theorem dX8_opens_53 : decode cX8_opens 53 = .ok (.aload_n 0, 1) := dk_42 (dk_at dksX8_opens_2 5 rfl rfl)
theorem dX8_opens_54 : decode cX8_opens 54 = .ok (.getfield 154, 3) := dk_180 0 154 (dk_at dksX8_opens_2 6 rfl rfl)
theorem dX8_opens_57 : decode cX8_opens 57 = .ok (.iconst 1, 1) := dk_4 (dk_at dksX8_opens_2 9 rfl rfl)
theorem dX8_opens_58 : decode cX8_opens 58 = .ok (.iadd, 1) := dk_96 (dk_at dksX8_opens_2 10 rfl rfl)
theorem dX8_opens_59 : decode cX8_opens 59 = .ok (.putfield 154, 3) := dk_181 0 154 (dk_at dksX8_opens_2 11 rfl rfl)
theorem dX8_opens_62 : decode cX8_opens 62 = .ok (.iconst 1, 1) := dk_4 (dk_at dksX8_opens_2 14 rfl rfl)
theorem dX8_opens_63 : decode cX8_opens 63 = .ok (.ireturn, 1) := dk_172 (dk_at dksX8_opens_2 15 rfl rfl)
abbrev cX8_isDigit : ByteArray := prog_18_method_30_code
def yX8_isDigit : MethodName := ⟨RX8, "isDigit", "()Z"⟩
def dkwX8_isDigit_0 : List UInt8 := [42, 182, 0, 160, 16, 48, 161, 0, 16, 42, 182, 0, 160, 16, 57, 163, 0, 7, 4, 167, 0, 4, 3, 172]
abbrev dktX8_isDigit_0 : List UInt8 := dkwX8_isDigit_0 ++ []
theorem dksX8_isDigit_0 : cX8_isDigit.data.toList.drop 0 = dktX8_isDigit_0 := by decide +kernel
theorem dX8_isDigit_0 : decode cX8_isDigit 0 = .ok (.aload_n 0, 1) := dk_42 (dk_at dksX8_isDigit_0 0 rfl rfl)
theorem dX8_isDigit_1 : decode cX8_isDigit 1 = .ok (.invokevirtual 160, 3) := dk_182 0 160 (dk_at dksX8_isDigit_0 1 rfl rfl)
theorem dX8_isDigit_4 : decode cX8_isDigit 4 = .ok (.bipush 48, 2) := dk_16 48 (dk_at dksX8_isDigit_0 4 rfl rfl)
theorem dX8_isDigit_6 : decode cX8_isDigit 6 = .ok (.if_icmp .lt 16, 3) := dk_161 0 16 (dk_at dksX8_isDigit_0 6 rfl rfl)
theorem dX8_isDigit_9 : decode cX8_isDigit 9 = .ok (.aload_n 0, 1) := dk_42 (dk_at dksX8_isDigit_0 9 rfl rfl)
theorem dX8_isDigit_10 : decode cX8_isDigit 10 = .ok (.invokevirtual 160, 3) := dk_182 0 160 (dk_at dksX8_isDigit_0 10 rfl rfl)
theorem dX8_isDigit_13 : decode cX8_isDigit 13 = .ok (.bipush 57, 2) := dk_16 57 (dk_at dksX8_isDigit_0 13 rfl rfl)
theorem dX8_isDigit_15 : decode cX8_isDigit 15 = .ok (.if_icmp .gt 7, 3) := dk_163 0 7 (dk_at dksX8_isDigit_0 15 rfl rfl)
theorem dX8_isDigit_18 : decode cX8_isDigit 18 = .ok (.iconst 1, 1) := dk_4 (dk_at dksX8_isDigit_0 18 rfl rfl)
theorem dX8_isDigit_19 : decode cX8_isDigit 19 = .ok (.goto 4, 3) := dk_167 0 4 (dk_at dksX8_isDigit_0 19 rfl rfl)
theorem dX8_isDigit_22 : decode cX8_isDigit 22 = .ok (.iconst 0, 1) := dk_3 (dk_at dksX8_isDigit_0 22 rfl rfl)
theorem dX8_isDigit_23 : decode cX8_isDigit 23 = .ok (.ireturn, 1) := dk_172 (dk_at dksX8_isDigit_0 23 rfl rfl)
abbrev cX8_readsNumber : ByteArray := prog_18_method_33_code
def yX8_readsNumber : MethodName := ⟨RX8, "readsNumber", "()Z"⟩
def dkwX8_readsNumber_3 : List UInt8 := [172]
abbrev dktX8_readsNumber_3 : List UInt8 := dkwX8_readsNumber_3 ++ []
def dkwX8_readsNumber_2 : List UInt8 := [182, 0, 160, 96, 16, 48, 100, 181, 0, 171, 42, 42, 180, 0, 154, 4, 96, 181, 0, 154, 167, 255, 200, 4]
abbrev dktX8_readsNumber_2 : List UInt8 := dkwX8_readsNumber_2 ++ dktX8_readsNumber_3
def dkwX8_readsNumber_1 : List UInt8 := [160, 0, 13, 42, 5, 42, 180, 0, 154, 182, 0, 167, 172, 42, 16, 10, 42, 180, 0, 171, 104, 42]
abbrev dktX8_readsNumber_1 : List UInt8 := dkwX8_readsNumber_1 ++ dktX8_readsNumber_2
def dkwX8_readsNumber_0 : List UInt8 := [42, 180, 0, 154, 60, 42, 3, 181, 0, 171, 42, 182, 0, 174, 153, 0, 55, 42, 180, 0, 154, 27, 8, 96]
abbrev dktX8_readsNumber_0 : List UInt8 := dkwX8_readsNumber_0 ++ dktX8_readsNumber_1
theorem dksX8_readsNumber_0 : cX8_readsNumber.data.toList.drop 0 = dktX8_readsNumber_0 := by decide +kernel
theorem dksX8_readsNumber_1 : cX8_readsNumber.data.toList.drop 24 = dktX8_readsNumber_1 := dk_seg dksX8_readsNumber_0 24 rfl rfl
theorem dksX8_readsNumber_2 : cX8_readsNumber.data.toList.drop 46 = dktX8_readsNumber_2 := dk_seg dksX8_readsNumber_1 22 rfl rfl
theorem dksX8_readsNumber_3 : cX8_readsNumber.data.toList.drop 70 = dktX8_readsNumber_3 := dk_seg dksX8_readsNumber_2 24 rfl rfl
theorem dX8_readsNumber_0 : decode cX8_readsNumber 0 = .ok (.aload_n 0, 1) := dk_42 (dk_at dksX8_readsNumber_0 0 rfl rfl)
theorem dX8_readsNumber_1 : decode cX8_readsNumber 1 = .ok (.getfield 154, 3) := dk_180 0 154 (dk_at dksX8_readsNumber_0 1 rfl rfl)
theorem dX8_readsNumber_4 : decode cX8_readsNumber 4 = .ok (.istore_n 1, 1) := dk_60 (dk_at dksX8_readsNumber_0 4 rfl rfl)
theorem dX8_readsNumber_5 : decode cX8_readsNumber 5 = .ok (.aload_n 0, 1) := dk_42 (dk_at dksX8_readsNumber_0 5 rfl rfl)
theorem dX8_readsNumber_6 : decode cX8_readsNumber 6 = .ok (.iconst 0, 1) := dk_3 (dk_at dksX8_readsNumber_0 6 rfl rfl)
theorem dX8_readsNumber_7 : decode cX8_readsNumber 7 = .ok (.putfield 171, 3) := dk_181 0 171 (dk_at dksX8_readsNumber_0 7 rfl rfl)
theorem dX8_readsNumber_10 : decode cX8_readsNumber 10 = .ok (.aload_n 0, 1) := dk_42 (dk_at dksX8_readsNumber_0 10 rfl rfl)
theorem dX8_readsNumber_11 : decode cX8_readsNumber 11 = .ok (.invokevirtual 174, 3) := dk_182 0 174 (dk_at dksX8_readsNumber_0 11 rfl rfl)
theorem dX8_readsNumber_14 : decode cX8_readsNumber 14 = .ok (.ifCond .eq 55, 3) := dk_153 0 55 (dk_at dksX8_readsNumber_0 14 rfl rfl)
theorem dX8_readsNumber_17 : decode cX8_readsNumber 17 = .ok (.aload_n 0, 1) := dk_42 (dk_at dksX8_readsNumber_0 17 rfl rfl)
theorem dX8_readsNumber_18 : decode cX8_readsNumber 18 = .ok (.getfield 154, 3) := dk_180 0 154 (dk_at dksX8_readsNumber_0 18 rfl rfl)
theorem dX8_readsNumber_21 : decode cX8_readsNumber 21 = .ok (.iload_n 1, 1) := dk_27 (dk_at dksX8_readsNumber_0 21 rfl rfl)
theorem dX8_readsNumber_22 : decode cX8_readsNumber 22 = .ok (.iconst 5, 1) := dk_8 (dk_at dksX8_readsNumber_0 22 rfl rfl)
theorem dX8_readsNumber_23 : decode cX8_readsNumber 23 = .ok (.iadd, 1) := dk_96 (dk_at dksX8_readsNumber_0 23 rfl rfl)
theorem dX8_readsNumber_24 : decode cX8_readsNumber 24 = .ok (.if_icmp .ne 13, 3) := dk_160 0 13 (dk_at dksX8_readsNumber_1 0 rfl rfl)
theorem dX8_readsNumber_27 : decode cX8_readsNumber 27 = .ok (.aload_n 0, 1) := dk_42 (dk_at dksX8_readsNumber_1 3 rfl rfl)
theorem dX8_readsNumber_28 : decode cX8_readsNumber 28 = .ok (.iconst 2, 1) := dk_5 (dk_at dksX8_readsNumber_1 4 rfl rfl)
theorem dX8_readsNumber_29 : decode cX8_readsNumber 29 = .ok (.aload_n 0, 1) := dk_42 (dk_at dksX8_readsNumber_1 5 rfl rfl)
theorem dX8_readsNumber_30 : decode cX8_readsNumber 30 = .ok (.getfield 154, 3) := dk_180 0 154 (dk_at dksX8_readsNumber_1 6 rfl rfl)
theorem dX8_readsNumber_33 : decode cX8_readsNumber 33 = .ok (.invokevirtual 167, 3) := dk_182 0 167 (dk_at dksX8_readsNumber_1 9 rfl rfl)
theorem dX8_readsNumber_36 : decode cX8_readsNumber 36 = .ok (.ireturn, 1) := dk_172 (dk_at dksX8_readsNumber_1 12 rfl rfl)
theorem dX8_readsNumber_37 : decode cX8_readsNumber 37 = .ok (.aload_n 0, 1) := dk_42 (dk_at dksX8_readsNumber_1 13 rfl rfl)
theorem dX8_readsNumber_38 : decode cX8_readsNumber 38 = .ok (.bipush 10, 2) := dk_16 10 (dk_at dksX8_readsNumber_1 14 rfl rfl)
theorem dX8_readsNumber_40 : decode cX8_readsNumber 40 = .ok (.aload_n 0, 1) := dk_42 (dk_at dksX8_readsNumber_1 16 rfl rfl)
theorem dX8_readsNumber_41 : decode cX8_readsNumber 41 = .ok (.getfield 171, 3) := dk_180 0 171 (dk_at dksX8_readsNumber_1 17 rfl rfl)
theorem dX8_readsNumber_44 : decode cX8_readsNumber 44 = .ok (.imul, 1) := dk_104 (dk_at dksX8_readsNumber_1 20 rfl rfl)
theorem dX8_readsNumber_45 : decode cX8_readsNumber 45 = .ok (.aload_n 0, 1) := dk_42 (dk_at dksX8_readsNumber_1 21 rfl rfl)
theorem dX8_readsNumber_46 : decode cX8_readsNumber 46 = .ok (.invokevirtual 160, 3) := dk_182 0 160 (dk_at dksX8_readsNumber_2 0 rfl rfl)
theorem dX8_readsNumber_49 : decode cX8_readsNumber 49 = .ok (.iadd, 1) := dk_96 (dk_at dksX8_readsNumber_2 3 rfl rfl)
theorem dX8_readsNumber_50 : decode cX8_readsNumber 50 = .ok (.bipush 48, 2) := dk_16 48 (dk_at dksX8_readsNumber_2 4 rfl rfl)
theorem dX8_readsNumber_52 : decode cX8_readsNumber 52 = .ok (.isub, 1) := dk_100 (dk_at dksX8_readsNumber_2 6 rfl rfl)
theorem dX8_readsNumber_53 : decode cX8_readsNumber 53 = .ok (.putfield 171, 3) := dk_181 0 171 (dk_at dksX8_readsNumber_2 7 rfl rfl)
theorem dX8_readsNumber_56 : decode cX8_readsNumber 56 = .ok (.aload_n 0, 1) := dk_42 (dk_at dksX8_readsNumber_2 10 rfl rfl)
theorem dX8_readsNumber_57 : decode cX8_readsNumber 57 = .ok (.aload_n 0, 1) := dk_42 (dk_at dksX8_readsNumber_2 11 rfl rfl)
theorem dX8_readsNumber_58 : decode cX8_readsNumber 58 = .ok (.getfield 154, 3) := dk_180 0 154 (dk_at dksX8_readsNumber_2 12 rfl rfl)
theorem dX8_readsNumber_61 : decode cX8_readsNumber 61 = .ok (.iconst 1, 1) := dk_4 (dk_at dksX8_readsNumber_2 15 rfl rfl)
theorem dX8_readsNumber_62 : decode cX8_readsNumber 62 = .ok (.iadd, 1) := dk_96 (dk_at dksX8_readsNumber_2 16 rfl rfl)
theorem dX8_readsNumber_63 : decode cX8_readsNumber 63 = .ok (.putfield 154, 3) := dk_181 0 154 (dk_at dksX8_readsNumber_2 17 rfl rfl)
theorem dX8_readsNumber_66 : decode cX8_readsNumber 66 = .ok (.goto (-56), 3) := dk_167 255 200 (dk_at dksX8_readsNumber_2 20 rfl rfl)
theorem dX8_readsNumber_69 : decode cX8_readsNumber 69 = .ok (.iconst 1, 1) := dk_4 (dk_at dksX8_readsNumber_2 23 rfl rfl)
theorem dX8_readsNumber_70 : decode cX8_readsNumber 70 = .ok (.ireturn, 1) := dk_172 (dk_at dksX8_readsNumber_3 0 rfl rfl)
abbrev cX8_notes : ByteArray := prog_18_method_34_code
def yX8_notes : MethodName := ⟨RX8, "notes", "(II)V"⟩
def dkwX8_notes_1 : List UInt8 := [181, 0, 178, 177]
abbrev dktX8_notes_1 : List UInt8 := dkwX8_notes_1 ++ []
def dkwX8_notes_0 : List UInt8 := [42, 180, 0, 29, 42, 180, 0, 178, 18, 181, 27, 104, 28, 96, 79, 42, 42, 180, 0, 178, 4, 96]
abbrev dktX8_notes_0 : List UInt8 := dkwX8_notes_0 ++ dktX8_notes_1
theorem dksX8_notes_0 : cX8_notes.data.toList.drop 0 = dktX8_notes_0 := by decide +kernel
theorem dksX8_notes_1 : cX8_notes.data.toList.drop 22 = dktX8_notes_1 := dk_seg dksX8_notes_0 22 rfl rfl
theorem dX8_notes_0 : decode cX8_notes 0 = .ok (.aload_n 0, 1) := dk_42 (dk_at dksX8_notes_0 0 rfl rfl)
theorem dX8_notes_1 : decode cX8_notes 1 = .ok (.getfield 29, 3) := dk_180 0 29 (dk_at dksX8_notes_0 1 rfl rfl)
theorem dX8_notes_4 : decode cX8_notes 4 = .ok (.aload_n 0, 1) := dk_42 (dk_at dksX8_notes_0 4 rfl rfl)
theorem dX8_notes_5 : decode cX8_notes 5 = .ok (.getfield 178, 3) := dk_180 0 178 (dk_at dksX8_notes_0 5 rfl rfl)
theorem dX8_notes_8 : decode cX8_notes 8 = .ok (.ldc 181, 2) := dk_18 181 (dk_at dksX8_notes_0 8 rfl rfl)
theorem dX8_notes_10 : decode cX8_notes 10 = .ok (.iload_n 1, 1) := dk_27 (dk_at dksX8_notes_0 10 rfl rfl)
theorem dX8_notes_11 : decode cX8_notes 11 = .ok (.imul, 1) := dk_104 (dk_at dksX8_notes_0 11 rfl rfl)
theorem dX8_notes_12 : decode cX8_notes 12 = .ok (.iload_n 2, 1) := dk_28 (dk_at dksX8_notes_0 12 rfl rfl)
theorem dX8_notes_13 : decode cX8_notes 13 = .ok (.iadd, 1) := dk_96 (dk_at dksX8_notes_0 13 rfl rfl)
theorem dX8_notes_14 : decode cX8_notes 14 = .ok (.iastore, 1) := dk_79 (dk_at dksX8_notes_0 14 rfl rfl)
theorem dX8_notes_15 : decode cX8_notes 15 = .ok (.aload_n 0, 1) := dk_42 (dk_at dksX8_notes_0 15 rfl rfl)
theorem dX8_notes_16 : decode cX8_notes 16 = .ok (.aload_n 0, 1) := dk_42 (dk_at dksX8_notes_0 16 rfl rfl)
theorem dX8_notes_17 : decode cX8_notes 17 = .ok (.getfield 178, 3) := dk_180 0 178 (dk_at dksX8_notes_0 17 rfl rfl)
theorem dX8_notes_20 : decode cX8_notes 20 = .ok (.iconst 1, 1) := dk_4 (dk_at dksX8_notes_0 20 rfl rfl)
theorem dX8_notes_21 : decode cX8_notes 21 = .ok (.iadd, 1) := dk_96 (dk_at dksX8_notes_0 21 rfl rfl)
theorem dX8_notes_22 : decode cX8_notes 22 = .ok (.putfield 178, 3) := dk_181 0 178 (dk_at dksX8_notes_1 0 rfl rfl)
theorem dX8_notes_25 : decode cX8_notes 25 = .ok (.return_, 1) := dk_177 (dk_at dksX8_notes_1 3 rfl rfl)
abbrev cX8_factOf : ByteArray := prog_18_method_37_code
def yX8_factOf : MethodName := ⟨RX8, "factOf", "(I)I"⟩
def dkwX8_factOf_2 : List UInt8 := [3, 172, 4, 172, 5, 172, 6, 172, 7, 172, 8, 172, 16, 6, 172, 2, 172]
abbrev dktX8_factOf_2 : List UInt8 := dkwX8_factOf_2 ++ []
def dkwX8_factOf_1 : List UInt8 := [170, 0, 0, 0, 0, 0, 102, 0, 0, 0, 102, 0, 0, 0, 119, 0, 0, 0, 87, 0, 0, 0, 102, 0, 0, 0, 102, 0, 0, 0, 102, 0, 0, 0, 102, 0, 0, 0, 91, 0, 0, 0, 102, 0, 0, 0, 102, 0, 0, 0, 93, 0, 0, 0, 102, 0, 0, 0, 102, 0, 0, 0, 95, 0, 0, 0, 102, 0, 0, 0, 97, 0, 0, 0, 89, 0, 0, 0, 102, 0, 0, 0, 102, 0, 0, 0, 99]
abbrev dktX8_factOf_1 : List UInt8 := dkwX8_factOf_1 ++ dktX8_factOf_2
def dkwX8_factOf_0 : List UInt8 := [26]
abbrev dktX8_factOf_0 : List UInt8 := dkwX8_factOf_0 ++ dktX8_factOf_1
theorem dksX8_factOf_0 : cX8_factOf.data.toList.drop 0 = dktX8_factOf_0 := by decide +kernel
theorem dksX8_factOf_1 : cX8_factOf.data.toList.drop 1 = dktX8_factOf_1 := dk_seg dksX8_factOf_0 1 rfl rfl
theorem dksX8_factOf_2 : cX8_factOf.data.toList.drop 88 = dktX8_factOf_2 := dk_seg dksX8_factOf_1 87 rfl rfl
theorem dX8_factOf_0 : decode cX8_factOf 0 = .ok (.iload_n 0, 1) := dk_26 (dk_at dksX8_factOf_0 0 rfl rfl)
theorem dX8_factOf_1 : decode cX8_factOf 1 = .ok (.tableswitch 102 102 119 #[87, 102, 102, 102, 102, 91, 102, 102, 93, 102, 102, 95, 102, 97, 89, 102, 102, 99], 87) := by decide +kernel
theorem dX8_factOf_88 : decode cX8_factOf 88 = .ok (.iconst 0, 1) := dk_3 (dk_at dksX8_factOf_2 0 rfl rfl)
theorem dX8_factOf_89 : decode cX8_factOf 89 = .ok (.ireturn, 1) := dk_172 (dk_at dksX8_factOf_2 1 rfl rfl)
theorem dX8_factOf_90 : decode cX8_factOf 90 = .ok (.iconst 1, 1) := dk_4 (dk_at dksX8_factOf_2 2 rfl rfl)
theorem dX8_factOf_91 : decode cX8_factOf 91 = .ok (.ireturn, 1) := dk_172 (dk_at dksX8_factOf_2 3 rfl rfl)
theorem dX8_factOf_92 : decode cX8_factOf 92 = .ok (.iconst 2, 1) := dk_5 (dk_at dksX8_factOf_2 4 rfl rfl)
theorem dX8_factOf_93 : decode cX8_factOf 93 = .ok (.ireturn, 1) := dk_172 (dk_at dksX8_factOf_2 5 rfl rfl)
theorem dX8_factOf_94 : decode cX8_factOf 94 = .ok (.iconst 3, 1) := dk_6 (dk_at dksX8_factOf_2 6 rfl rfl)
theorem dX8_factOf_95 : decode cX8_factOf 95 = .ok (.ireturn, 1) := dk_172 (dk_at dksX8_factOf_2 7 rfl rfl)
theorem dX8_factOf_96 : decode cX8_factOf 96 = .ok (.iconst 4, 1) := dk_7 (dk_at dksX8_factOf_2 8 rfl rfl)
theorem dX8_factOf_97 : decode cX8_factOf 97 = .ok (.ireturn, 1) := dk_172 (dk_at dksX8_factOf_2 9 rfl rfl)
theorem dX8_factOf_98 : decode cX8_factOf 98 = .ok (.iconst 5, 1) := dk_8 (dk_at dksX8_factOf_2 10 rfl rfl)
theorem dX8_factOf_99 : decode cX8_factOf 99 = .ok (.ireturn, 1) := dk_172 (dk_at dksX8_factOf_2 11 rfl rfl)
theorem dX8_factOf_100 : decode cX8_factOf 100 = .ok (.bipush 6, 2) := dk_16 6 (dk_at dksX8_factOf_2 12 rfl rfl)
theorem dX8_factOf_102 : decode cX8_factOf 102 = .ok (.ireturn, 1) := dk_172 (dk_at dksX8_factOf_2 14 rfl rfl)
theorem dX8_factOf_103 : decode cX8_factOf 103 = .ok (.iconst (-1), 1) := dk_2 (dk_at dksX8_factOf_2 15 rfl rfl)
theorem dX8_factOf_104 : decode cX8_factOf 104 = .ok (.ireturn, 1) := dk_172 (dk_at dksX8_factOf_2 16 rfl rfl)
abbrev cX8_sumSign : ByteArray := prog_18_method_38_code
def yX8_sumSign : MethodName := ⟨RX8, "sumSign", "(I)I"⟩
def dkwX8_sumSign_2 : List UInt8 := [16, 6, 167, 0, 4, 2, 172]
abbrev dktX8_sumSign_2 : List UInt8 := dkwX8_sumSign_2 ++ []
def dkwX8_sumSign_1 : List UInt8 := [160, 0, 7, 7, 167, 0, 25, 26, 16, 47, 160, 0, 7, 8, 167, 0, 15, 26, 16, 37, 160, 0, 8]
abbrev dktX8_sumSign_1 : List UInt8 := dkwX8_sumSign_1 ++ dktX8_sumSign_2
def dkwX8_sumSign_0 : List UInt8 := [26, 16, 43, 160, 0, 7, 5, 167, 0, 45, 26, 16, 45, 160, 0, 7, 6, 167, 0, 35, 26, 16, 42]
abbrev dktX8_sumSign_0 : List UInt8 := dkwX8_sumSign_0 ++ dktX8_sumSign_1
theorem dksX8_sumSign_0 : cX8_sumSign.data.toList.drop 0 = dktX8_sumSign_0 := by decide +kernel
theorem dksX8_sumSign_1 : cX8_sumSign.data.toList.drop 23 = dktX8_sumSign_1 := dk_seg dksX8_sumSign_0 23 rfl rfl
theorem dksX8_sumSign_2 : cX8_sumSign.data.toList.drop 46 = dktX8_sumSign_2 := dk_seg dksX8_sumSign_1 23 rfl rfl
theorem dX8_sumSign_0 : decode cX8_sumSign 0 = .ok (.iload_n 0, 1) := dk_26 (dk_at dksX8_sumSign_0 0 rfl rfl)
theorem dX8_sumSign_1 : decode cX8_sumSign 1 = .ok (.bipush 43, 2) := dk_16 43 (dk_at dksX8_sumSign_0 1 rfl rfl)
theorem dX8_sumSign_3 : decode cX8_sumSign 3 = .ok (.if_icmp .ne 7, 3) := dk_160 0 7 (dk_at dksX8_sumSign_0 3 rfl rfl)
theorem dX8_sumSign_6 : decode cX8_sumSign 6 = .ok (.iconst 2, 1) := dk_5 (dk_at dksX8_sumSign_0 6 rfl rfl)
theorem dX8_sumSign_7 : decode cX8_sumSign 7 = .ok (.goto 45, 3) := dk_167 0 45 (dk_at dksX8_sumSign_0 7 rfl rfl)
theorem dX8_sumSign_10 : decode cX8_sumSign 10 = .ok (.iload_n 0, 1) := dk_26 (dk_at dksX8_sumSign_0 10 rfl rfl)
theorem dX8_sumSign_11 : decode cX8_sumSign 11 = .ok (.bipush 45, 2) := dk_16 45 (dk_at dksX8_sumSign_0 11 rfl rfl)
theorem dX8_sumSign_13 : decode cX8_sumSign 13 = .ok (.if_icmp .ne 7, 3) := dk_160 0 7 (dk_at dksX8_sumSign_0 13 rfl rfl)
theorem dX8_sumSign_16 : decode cX8_sumSign 16 = .ok (.iconst 3, 1) := dk_6 (dk_at dksX8_sumSign_0 16 rfl rfl)
theorem dX8_sumSign_17 : decode cX8_sumSign 17 = .ok (.goto 35, 3) := dk_167 0 35 (dk_at dksX8_sumSign_0 17 rfl rfl)
theorem dX8_sumSign_20 : decode cX8_sumSign 20 = .ok (.iload_n 0, 1) := dk_26 (dk_at dksX8_sumSign_0 20 rfl rfl)
theorem dX8_sumSign_21 : decode cX8_sumSign 21 = .ok (.bipush 42, 2) := dk_16 42 (dk_at dksX8_sumSign_0 21 rfl rfl)
theorem dX8_sumSign_23 : decode cX8_sumSign 23 = .ok (.if_icmp .ne 7, 3) := dk_160 0 7 (dk_at dksX8_sumSign_1 0 rfl rfl)
theorem dX8_sumSign_26 : decode cX8_sumSign 26 = .ok (.iconst 4, 1) := dk_7 (dk_at dksX8_sumSign_1 3 rfl rfl)
theorem dX8_sumSign_27 : decode cX8_sumSign 27 = .ok (.goto 25, 3) := dk_167 0 25 (dk_at dksX8_sumSign_1 4 rfl rfl)
theorem dX8_sumSign_30 : decode cX8_sumSign 30 = .ok (.iload_n 0, 1) := dk_26 (dk_at dksX8_sumSign_1 7 rfl rfl)
theorem dX8_sumSign_31 : decode cX8_sumSign 31 = .ok (.bipush 47, 2) := dk_16 47 (dk_at dksX8_sumSign_1 8 rfl rfl)
theorem dX8_sumSign_33 : decode cX8_sumSign 33 = .ok (.if_icmp .ne 7, 3) := dk_160 0 7 (dk_at dksX8_sumSign_1 10 rfl rfl)
theorem dX8_sumSign_36 : decode cX8_sumSign 36 = .ok (.iconst 5, 1) := dk_8 (dk_at dksX8_sumSign_1 13 rfl rfl)
theorem dX8_sumSign_37 : decode cX8_sumSign 37 = .ok (.goto 15, 3) := dk_167 0 15 (dk_at dksX8_sumSign_1 14 rfl rfl)
theorem dX8_sumSign_40 : decode cX8_sumSign 40 = .ok (.iload_n 0, 1) := dk_26 (dk_at dksX8_sumSign_1 17 rfl rfl)
theorem dX8_sumSign_41 : decode cX8_sumSign 41 = .ok (.bipush 37, 2) := dk_16 37 (dk_at dksX8_sumSign_1 18 rfl rfl)
theorem dX8_sumSign_43 : decode cX8_sumSign 43 = .ok (.if_icmp .ne 8, 3) := dk_160 0 8 (dk_at dksX8_sumSign_1 20 rfl rfl)
theorem dX8_sumSign_46 : decode cX8_sumSign 46 = .ok (.bipush 6, 2) := dk_16 6 (dk_at dksX8_sumSign_2 0 rfl rfl)
theorem dX8_sumSign_48 : decode cX8_sumSign 48 = .ok (.goto 4, 3) := dk_167 0 4 (dk_at dksX8_sumSign_2 2 rfl rfl)
theorem dX8_sumSign_51 : decode cX8_sumSign 51 = .ok (.iconst (-1), 1) := dk_2 (dk_at dksX8_sumSign_2 5 rfl rfl)
theorem dX8_sumSign_52 : decode cX8_sumSign 52 = .ok (.ireturn, 1) := dk_172 (dk_at dksX8_sumSign_2 6 rfl rfl)
abbrev cX8_closesSums : ByteArray := prog_18_method_39_code
def yX8_closesSums : MethodName := ⟨RX8, "closesSums", "(Z)V"⟩
def dkwX8_closesSums_2 : List UInt8 := [42, 42, 180, 0, 185, 4, 100, 181, 0, 185, 167, 255, 200, 177]
abbrev dktX8_closesSums_2 : List UInt8 := dkwX8_closesSums_2 ++ []
def dkwX8_closesSums_1 : List UInt8 := [182, 0, 188, 5, 159, 0, 11, 42, 182, 0, 188, 6, 160, 0, 25, 42, 42, 182, 0, 188, 3, 182, 0, 191]
abbrev dktX8_closesSums_1 : List UInt8 := dkwX8_closesSums_1 ++ dktX8_closesSums_2
def dkwX8_closesSums_0 : List UInt8 := [42, 182, 0, 188, 7, 161, 0, 12, 42, 182, 0, 188, 16, 6, 164, 0, 23, 27, 153, 0, 41, 42]
abbrev dktX8_closesSums_0 : List UInt8 := dkwX8_closesSums_0 ++ dktX8_closesSums_1
theorem dksX8_closesSums_0 : cX8_closesSums.data.toList.drop 0 = dktX8_closesSums_0 := by decide +kernel
theorem dksX8_closesSums_1 : cX8_closesSums.data.toList.drop 22 = dktX8_closesSums_1 := dk_seg dksX8_closesSums_0 22 rfl rfl
theorem dksX8_closesSums_2 : cX8_closesSums.data.toList.drop 46 = dktX8_closesSums_2 := dk_seg dksX8_closesSums_1 24 rfl rfl
theorem dX8_closesSums_0 : decode cX8_closesSums 0 = .ok (.aload_n 0, 1) := dk_42 (dk_at dksX8_closesSums_0 0 rfl rfl)
theorem dX8_closesSums_1 : decode cX8_closesSums 1 = .ok (.invokevirtual 188, 3) := dk_182 0 188 (dk_at dksX8_closesSums_0 1 rfl rfl)
theorem dX8_closesSums_4 : decode cX8_closesSums 4 = .ok (.iconst 4, 1) := dk_7 (dk_at dksX8_closesSums_0 4 rfl rfl)
theorem dX8_closesSums_5 : decode cX8_closesSums 5 = .ok (.if_icmp .lt 12, 3) := dk_161 0 12 (dk_at dksX8_closesSums_0 5 rfl rfl)
theorem dX8_closesSums_8 : decode cX8_closesSums 8 = .ok (.aload_n 0, 1) := dk_42 (dk_at dksX8_closesSums_0 8 rfl rfl)
theorem dX8_closesSums_9 : decode cX8_closesSums 9 = .ok (.invokevirtual 188, 3) := dk_182 0 188 (dk_at dksX8_closesSums_0 9 rfl rfl)
theorem dX8_closesSums_12 : decode cX8_closesSums 12 = .ok (.bipush 6, 2) := dk_16 6 (dk_at dksX8_closesSums_0 12 rfl rfl)
theorem dX8_closesSums_14 : decode cX8_closesSums 14 = .ok (.if_icmp .le 23, 3) := dk_164 0 23 (dk_at dksX8_closesSums_0 14 rfl rfl)
theorem dX8_closesSums_17 : decode cX8_closesSums 17 = .ok (.iload_n 1, 1) := dk_27 (dk_at dksX8_closesSums_0 17 rfl rfl)
theorem dX8_closesSums_18 : decode cX8_closesSums 18 = .ok (.ifCond .eq 41, 3) := dk_153 0 41 (dk_at dksX8_closesSums_0 18 rfl rfl)
theorem dX8_closesSums_21 : decode cX8_closesSums 21 = .ok (.aload_n 0, 1) := dk_42 (dk_at dksX8_closesSums_0 21 rfl rfl)
theorem dX8_closesSums_22 : decode cX8_closesSums 22 = .ok (.invokevirtual 188, 3) := dk_182 0 188 (dk_at dksX8_closesSums_1 0 rfl rfl)
theorem dX8_closesSums_25 : decode cX8_closesSums 25 = .ok (.iconst 2, 1) := dk_5 (dk_at dksX8_closesSums_1 3 rfl rfl)
theorem dX8_closesSums_26 : decode cX8_closesSums 26 = .ok (.if_icmp .eq 11, 3) := dk_159 0 11 (dk_at dksX8_closesSums_1 4 rfl rfl)
theorem dX8_closesSums_29 : decode cX8_closesSums 29 = .ok (.aload_n 0, 1) := dk_42 (dk_at dksX8_closesSums_1 7 rfl rfl)
theorem dX8_closesSums_30 : decode cX8_closesSums 30 = .ok (.invokevirtual 188, 3) := dk_182 0 188 (dk_at dksX8_closesSums_1 8 rfl rfl)
theorem dX8_closesSums_33 : decode cX8_closesSums 33 = .ok (.iconst 3, 1) := dk_6 (dk_at dksX8_closesSums_1 11 rfl rfl)
theorem dX8_closesSums_34 : decode cX8_closesSums 34 = .ok (.if_icmp .ne 25, 3) := dk_160 0 25 (dk_at dksX8_closesSums_1 12 rfl rfl)
theorem dX8_closesSums_37 : decode cX8_closesSums 37 = .ok (.aload_n 0, 1) := dk_42 (dk_at dksX8_closesSums_1 15 rfl rfl)
theorem dX8_closesSums_38 : decode cX8_closesSums 38 = .ok (.aload_n 0, 1) := dk_42 (dk_at dksX8_closesSums_1 16 rfl rfl)
theorem dX8_closesSums_39 : decode cX8_closesSums 39 = .ok (.invokevirtual 188, 3) := dk_182 0 188 (dk_at dksX8_closesSums_1 17 rfl rfl)
theorem dX8_closesSums_42 : decode cX8_closesSums 42 = .ok (.iconst 0, 1) := dk_3 (dk_at dksX8_closesSums_1 20 rfl rfl)
theorem dX8_closesSums_43 : decode cX8_closesSums 43 = .ok (.invokevirtual 191, 3) := dk_182 0 191 (dk_at dksX8_closesSums_1 21 rfl rfl)
theorem dX8_closesSums_46 : decode cX8_closesSums 46 = .ok (.aload_n 0, 1) := dk_42 (dk_at dksX8_closesSums_2 0 rfl rfl)
theorem dX8_closesSums_47 : decode cX8_closesSums 47 = .ok (.aload_n 0, 1) := dk_42 (dk_at dksX8_closesSums_2 1 rfl rfl)
theorem dX8_closesSums_48 : decode cX8_closesSums 48 = .ok (.getfield 185, 3) := dk_180 0 185 (dk_at dksX8_closesSums_2 2 rfl rfl)
theorem dX8_closesSums_51 : decode cX8_closesSums 51 = .ok (.iconst 1, 1) := dk_4 (dk_at dksX8_closesSums_2 5 rfl rfl)
theorem dX8_closesSums_52 : decode cX8_closesSums 52 = .ok (.isub, 1) := dk_100 (dk_at dksX8_closesSums_2 6 rfl rfl)
theorem dX8_closesSums_53 : decode cX8_closesSums 53 = .ok (.putfield 185, 3) := dk_181 0 185 (dk_at dksX8_closesSums_2 7 rfl rfl)
theorem dX8_closesSums_56 : decode cX8_closesSums 56 = .ok (.goto (-56), 3) := dk_167 255 200 (dk_at dksX8_closesSums_2 10 rfl rfl)
theorem dX8_closesSums_59 : decode cX8_closesSums 59 = .ok (.return_, 1) := dk_177 (dk_at dksX8_closesSums_2 13 rfl rfl)
abbrev cX8_waitTop : ByteArray := prog_18_method_36_code
def yX8_waitTop : MethodName := ⟨RX8, "waitTop", "()I"⟩
def dkwX8_waitTop_1 : List UInt8 := [108, 172]
abbrev dktX8_waitTop_1 : List UInt8 := dkwX8_waitTop_1 ++ []
def dkwX8_waitTop_0 : List UInt8 := [42, 180, 0, 185, 154, 0, 7, 2, 167, 0, 17, 42, 180, 0, 32, 42, 180, 0, 185, 4, 100, 46, 18, 181]
abbrev dktX8_waitTop_0 : List UInt8 := dkwX8_waitTop_0 ++ dktX8_waitTop_1
theorem dksX8_waitTop_0 : cX8_waitTop.data.toList.drop 0 = dktX8_waitTop_0 := by decide +kernel
theorem dksX8_waitTop_1 : cX8_waitTop.data.toList.drop 24 = dktX8_waitTop_1 := dk_seg dksX8_waitTop_0 24 rfl rfl
theorem dX8_waitTop_0 : decode cX8_waitTop 0 = .ok (.aload_n 0, 1) := dk_42 (dk_at dksX8_waitTop_0 0 rfl rfl)
theorem dX8_waitTop_1 : decode cX8_waitTop 1 = .ok (.getfield 185, 3) := dk_180 0 185 (dk_at dksX8_waitTop_0 1 rfl rfl)
theorem dX8_waitTop_4 : decode cX8_waitTop 4 = .ok (.ifCond .ne 7, 3) := dk_154 0 7 (dk_at dksX8_waitTop_0 4 rfl rfl)
theorem dX8_waitTop_7 : decode cX8_waitTop 7 = .ok (.iconst (-1), 1) := dk_2 (dk_at dksX8_waitTop_0 7 rfl rfl)
theorem dX8_waitTop_8 : decode cX8_waitTop 8 = .ok (.goto 17, 3) := dk_167 0 17 (dk_at dksX8_waitTop_0 8 rfl rfl)
theorem dX8_waitTop_11 : decode cX8_waitTop 11 = .ok (.aload_n 0, 1) := dk_42 (dk_at dksX8_waitTop_0 11 rfl rfl)
theorem dX8_waitTop_12 : decode cX8_waitTop 12 = .ok (.getfield 32, 3) := dk_180 0 32 (dk_at dksX8_waitTop_0 12 rfl rfl)
theorem dX8_waitTop_15 : decode cX8_waitTop 15 = .ok (.aload_n 0, 1) := dk_42 (dk_at dksX8_waitTop_0 15 rfl rfl)
theorem dX8_waitTop_16 : decode cX8_waitTop 16 = .ok (.getfield 185, 3) := dk_180 0 185 (dk_at dksX8_waitTop_0 16 rfl rfl)
theorem dX8_waitTop_19 : decode cX8_waitTop 19 = .ok (.iconst 1, 1) := dk_4 (dk_at dksX8_waitTop_0 19 rfl rfl)
theorem dX8_waitTop_20 : decode cX8_waitTop 20 = .ok (.isub, 1) := dk_100 (dk_at dksX8_waitTop_0 20 rfl rfl)
theorem dX8_waitTop_21 : decode cX8_waitTop 21 = .ok (.iaload, 1) := dk_46 (dk_at dksX8_waitTop_0 21 rfl rfl)
theorem dX8_waitTop_22 : decode cX8_waitTop 22 = .ok (.ldc 181, 2) := dk_18 181 (dk_at dksX8_waitTop_0 22 rfl rfl)
theorem dX8_waitTop_24 : decode cX8_waitTop 24 = .ok (.idiv, 1) := dk_108 (dk_at dksX8_waitTop_1 0 rfl rfl)
theorem dX8_waitTop_25 : decode cX8_waitTop 25 = .ok (.ireturn, 1) := dk_172 (dk_at dksX8_waitTop_1 1 rfl rfl)
abbrev cX8_hasOpenSum : ByteArray := prog_18_method_41_code
def yX8_hasOpenSum : MethodName := ⟨RX8, "hasOpenSum", "(I)Z"⟩
def dkwX8_hasOpenSum_1 : List UInt8 := [4, 172, 132, 2, 1, 167, 255, 229, 3, 172]
abbrev dktX8_hasOpenSum_1 : List UInt8 := dkwX8_hasOpenSum_1 ++ []
def dkwX8_hasOpenSum_0 : List UInt8 := [27, 61, 28, 42, 180, 0, 185, 162, 0, 25, 42, 180, 0, 32, 28, 46, 18, 181, 108, 16, 14, 160, 0, 5]
abbrev dktX8_hasOpenSum_0 : List UInt8 := dkwX8_hasOpenSum_0 ++ dktX8_hasOpenSum_1
theorem dksX8_hasOpenSum_0 : cX8_hasOpenSum.data.toList.drop 0 = dktX8_hasOpenSum_0 := by decide +kernel
theorem dksX8_hasOpenSum_1 : cX8_hasOpenSum.data.toList.drop 24 = dktX8_hasOpenSum_1 := dk_seg dksX8_hasOpenSum_0 24 rfl rfl
theorem dX8_hasOpenSum_0 : decode cX8_hasOpenSum 0 = .ok (.iload_n 1, 1) := dk_27 (dk_at dksX8_hasOpenSum_0 0 rfl rfl)
theorem dX8_hasOpenSum_1 : decode cX8_hasOpenSum 1 = .ok (.istore_n 2, 1) := dk_61 (dk_at dksX8_hasOpenSum_0 1 rfl rfl)
theorem dX8_hasOpenSum_2 : decode cX8_hasOpenSum 2 = .ok (.iload_n 2, 1) := dk_28 (dk_at dksX8_hasOpenSum_0 2 rfl rfl)
theorem dX8_hasOpenSum_3 : decode cX8_hasOpenSum 3 = .ok (.aload_n 0, 1) := dk_42 (dk_at dksX8_hasOpenSum_0 3 rfl rfl)
theorem dX8_hasOpenSum_4 : decode cX8_hasOpenSum 4 = .ok (.getfield 185, 3) := dk_180 0 185 (dk_at dksX8_hasOpenSum_0 4 rfl rfl)
theorem dX8_hasOpenSum_7 : decode cX8_hasOpenSum 7 = .ok (.if_icmp .ge 25, 3) := dk_162 0 25 (dk_at dksX8_hasOpenSum_0 7 rfl rfl)
theorem dX8_hasOpenSum_10 : decode cX8_hasOpenSum 10 = .ok (.aload_n 0, 1) := dk_42 (dk_at dksX8_hasOpenSum_0 10 rfl rfl)
theorem dX8_hasOpenSum_11 : decode cX8_hasOpenSum 11 = .ok (.getfield 32, 3) := dk_180 0 32 (dk_at dksX8_hasOpenSum_0 11 rfl rfl)
theorem dX8_hasOpenSum_14 : decode cX8_hasOpenSum 14 = .ok (.iload_n 2, 1) := dk_28 (dk_at dksX8_hasOpenSum_0 14 rfl rfl)
theorem dX8_hasOpenSum_15 : decode cX8_hasOpenSum 15 = .ok (.iaload, 1) := dk_46 (dk_at dksX8_hasOpenSum_0 15 rfl rfl)
theorem dX8_hasOpenSum_16 : decode cX8_hasOpenSum 16 = .ok (.ldc 181, 2) := dk_18 181 (dk_at dksX8_hasOpenSum_0 16 rfl rfl)
theorem dX8_hasOpenSum_18 : decode cX8_hasOpenSum 18 = .ok (.idiv, 1) := dk_108 (dk_at dksX8_hasOpenSum_0 18 rfl rfl)
theorem dX8_hasOpenSum_19 : decode cX8_hasOpenSum 19 = .ok (.bipush 14, 2) := dk_16 14 (dk_at dksX8_hasOpenSum_0 19 rfl rfl)
theorem dX8_hasOpenSum_21 : decode cX8_hasOpenSum 21 = .ok (.if_icmp .ne 5, 3) := dk_160 0 5 (dk_at dksX8_hasOpenSum_0 21 rfl rfl)
theorem dX8_hasOpenSum_24 : decode cX8_hasOpenSum 24 = .ok (.iconst 1, 1) := dk_4 (dk_at dksX8_hasOpenSum_1 0 rfl rfl)
theorem dX8_hasOpenSum_25 : decode cX8_hasOpenSum 25 = .ok (.ireturn, 1) := dk_172 (dk_at dksX8_hasOpenSum_1 1 rfl rfl)
theorem dX8_hasOpenSum_26 : decode cX8_hasOpenSum 26 = .ok (.iinc 2 1, 3) := dk_132 2 1 (dk_at dksX8_hasOpenSum_1 2 rfl rfl)
theorem dX8_hasOpenSum_29 : decode cX8_hasOpenSum 29 = .ok (.goto (-27), 3) := dk_167 255 229 (dk_at dksX8_hasOpenSum_1 5 rfl rfl)
theorem dX8_hasOpenSum_32 : decode cX8_hasOpenSum 32 = .ok (.iconst 0, 1) := dk_3 (dk_at dksX8_hasOpenSum_1 8 rfl rfl)
theorem dX8_hasOpenSum_33 : decode cX8_hasOpenSum 33 = .ok (.ireturn, 1) := dk_172 (dk_at dksX8_hasOpenSum_1 9 rfl rfl)
abbrev cX8_readsCondition : ByteArray := prog_18_method_47_code
def yX8_readsCondition : MethodName := ⟨RX8, "readsCondition", "()Z"⟩
def dkwX8_readsCondition_9 : List UInt8 := [16, 11, 167, 0, 5, 16, 12, 182, 0, 228, 167, 255, 78]
abbrev dktX8_readsCondition_9 : List UInt8 := dkwX8_readsCondition_9 ++ []
def dkwX8_readsCondition_8 : List UInt8 := [16, 124, 160, 0, 7, 4, 167, 0, 4, 3, 182, 0, 225, 42, 42, 182, 0, 160, 16, 38, 160, 0, 8]
abbrev dktX8_readsCondition_8 : List UInt8 := dkwX8_readsCondition_8 ++ dktX8_readsCondition_9
def dkwX8_readsCondition_7 : List UInt8 := [182, 0, 160, 16, 124, 159, 0, 13, 42, 4, 42, 180, 0, 154, 182, 0, 167, 172, 42, 42, 182, 0, 160]
abbrev dktX8_readsCondition_7 : List UInt8 := dkwX8_readsCondition_7 ++ dktX8_readsCondition_8
def dkwX8_readsCondition_6 : List UInt8 := [154, 0, 5, 4, 172, 42, 182, 0, 219, 167, 255, 199, 42, 182, 0, 160, 16, 38, 159, 0, 22, 42]
abbrev dktX8_readsCondition_6 : List UInt8 := dkwX8_readsCondition_6 ++ dktX8_readsCondition_7
def dkwX8_readsCondition_5 : List UInt8 := [42, 180, 0, 182, 4, 100, 181, 0, 182, 42, 42, 180, 0, 154, 4, 96, 181, 0, 154, 42, 180, 0, 185]
abbrev dktX8_readsCondition_5 : List UInt8 := dkwX8_readsCondition_5 ++ dktX8_readsCondition_6
def dkwX8_readsCondition_4 : List UInt8 := [182, 0, 160, 16, 41, 160, 0, 54, 42, 4, 182, 0, 225, 42, 42, 180, 0, 185, 4, 100, 181, 0, 185, 42]
abbrev dktX8_readsCondition_4 : List UInt8 := dkwX8_readsCondition_4 ++ dktX8_readsCondition_5
def dkwX8_readsCondition_3 : List UInt8 := [167, 0, 5, 16, 13, 182, 0, 194, 154, 255, 218, 3, 172, 42, 182, 0, 222, 154, 0, 5, 3, 172, 42]
abbrev dktX8_readsCondition_3 : List UInt8 := dkwX8_readsCondition_3 ++ dktX8_readsCondition_4
def dkwX8_readsCondition_2 : List UInt8 := [159, 0, 12, 42, 182, 0, 160, 16, 40, 160, 0, 28, 42, 42, 182, 0, 160, 16, 33, 160, 0, 8, 16, 10]
abbrev dktX8_readsCondition_2 : List UInt8 := dkwX8_readsCondition_2 ++ dktX8_readsCondition_3
def dkwX8_readsCondition_1 : List UInt8 := [42, 3, 181, 0, 185, 42, 16, 13, 182, 0, 194, 154, 0, 5, 3, 172, 42, 182, 0, 160, 16, 33]
abbrev dktX8_readsCondition_1 : List UInt8 := dkwX8_readsCondition_1 ++ dktX8_readsCondition_2
def dkwX8_readsCondition_0 : List UInt8 := [42, 182, 0, 160, 16, 40, 159, 0, 13, 42, 4, 42, 180, 0, 154, 182, 0, 167, 172, 42, 3, 181, 0, 182]
abbrev dktX8_readsCondition_0 : List UInt8 := dkwX8_readsCondition_0 ++ dktX8_readsCondition_1
theorem dksX8_readsCondition_0 : cX8_readsCondition.data.toList.drop 0 = dktX8_readsCondition_0 := by decide +kernel
theorem dksX8_readsCondition_1 : cX8_readsCondition.data.toList.drop 24 = dktX8_readsCondition_1 := dk_seg dksX8_readsCondition_0 24 rfl rfl
theorem dksX8_readsCondition_2 : cX8_readsCondition.data.toList.drop 46 = dktX8_readsCondition_2 := dk_seg dksX8_readsCondition_1 22 rfl rfl
theorem dksX8_readsCondition_3 : cX8_readsCondition.data.toList.drop 70 = dktX8_readsCondition_3 := dk_seg dksX8_readsCondition_2 24 rfl rfl
theorem dksX8_readsCondition_4 : cX8_readsCondition.data.toList.drop 93 = dktX8_readsCondition_4 := dk_seg dksX8_readsCondition_3 23 rfl rfl
theorem dksX8_readsCondition_5 : cX8_readsCondition.data.toList.drop 117 = dktX8_readsCondition_5 := dk_seg dksX8_readsCondition_4 24 rfl rfl
theorem dksX8_readsCondition_6 : cX8_readsCondition.data.toList.drop 140 = dktX8_readsCondition_6 := dk_seg dksX8_readsCondition_5 23 rfl rfl
theorem dksX8_readsCondition_7 : cX8_readsCondition.data.toList.drop 162 = dktX8_readsCondition_7 := dk_seg dksX8_readsCondition_6 22 rfl rfl
theorem dksX8_readsCondition_8 : cX8_readsCondition.data.toList.drop 185 = dktX8_readsCondition_8 := dk_seg dksX8_readsCondition_7 23 rfl rfl
theorem dksX8_readsCondition_9 : cX8_readsCondition.data.toList.drop 208 = dktX8_readsCondition_9 := dk_seg dksX8_readsCondition_8 23 rfl rfl
theorem dX8_readsCondition_0 : decode cX8_readsCondition 0 = .ok (.aload_n 0, 1) := dk_42 (dk_at dksX8_readsCondition_0 0 rfl rfl)
theorem dX8_readsCondition_1 : decode cX8_readsCondition 1 = .ok (.invokevirtual 160, 3) := dk_182 0 160 (dk_at dksX8_readsCondition_0 1 rfl rfl)
theorem dX8_readsCondition_4 : decode cX8_readsCondition 4 = .ok (.bipush 40, 2) := dk_16 40 (dk_at dksX8_readsCondition_0 4 rfl rfl)
theorem dX8_readsCondition_6 : decode cX8_readsCondition 6 = .ok (.if_icmp .eq 13, 3) := dk_159 0 13 (dk_at dksX8_readsCondition_0 6 rfl rfl)
theorem dX8_readsCondition_9 : decode cX8_readsCondition 9 = .ok (.aload_n 0, 1) := dk_42 (dk_at dksX8_readsCondition_0 9 rfl rfl)
theorem dX8_readsCondition_10 : decode cX8_readsCondition 10 = .ok (.iconst 1, 1) := dk_4 (dk_at dksX8_readsCondition_0 10 rfl rfl)
theorem dX8_readsCondition_11 : decode cX8_readsCondition 11 = .ok (.aload_n 0, 1) := dk_42 (dk_at dksX8_readsCondition_0 11 rfl rfl)
theorem dX8_readsCondition_12 : decode cX8_readsCondition 12 = .ok (.getfield 154, 3) := dk_180 0 154 (dk_at dksX8_readsCondition_0 12 rfl rfl)
theorem dX8_readsCondition_15 : decode cX8_readsCondition 15 = .ok (.invokevirtual 167, 3) := dk_182 0 167 (dk_at dksX8_readsCondition_0 15 rfl rfl)
theorem dX8_readsCondition_18 : decode cX8_readsCondition 18 = .ok (.ireturn, 1) := dk_172 (dk_at dksX8_readsCondition_0 18 rfl rfl)
theorem dX8_readsCondition_19 : decode cX8_readsCondition 19 = .ok (.aload_n 0, 1) := dk_42 (dk_at dksX8_readsCondition_0 19 rfl rfl)
theorem dX8_readsCondition_20 : decode cX8_readsCondition 20 = .ok (.iconst 0, 1) := dk_3 (dk_at dksX8_readsCondition_0 20 rfl rfl)
theorem dX8_readsCondition_21 : decode cX8_readsCondition 21 = .ok (.putfield 182, 3) := dk_181 0 182 (dk_at dksX8_readsCondition_0 21 rfl rfl)
theorem dX8_readsCondition_24 : decode cX8_readsCondition 24 = .ok (.aload_n 0, 1) := dk_42 (dk_at dksX8_readsCondition_1 0 rfl rfl)
theorem dX8_readsCondition_25 : decode cX8_readsCondition 25 = .ok (.iconst 0, 1) := dk_3 (dk_at dksX8_readsCondition_1 1 rfl rfl)
theorem dX8_readsCondition_26 : decode cX8_readsCondition 26 = .ok (.putfield 185, 3) := dk_181 0 185 (dk_at dksX8_readsCondition_1 2 rfl rfl)
theorem dX8_readsCondition_29 : decode cX8_readsCondition 29 = .ok (.aload_n 0, 1) := dk_42 (dk_at dksX8_readsCondition_1 5 rfl rfl)
theorem dX8_readsCondition_30 : decode cX8_readsCondition 30 = .ok (.bipush 13, 2) := dk_16 13 (dk_at dksX8_readsCondition_1 6 rfl rfl)
theorem dX8_readsCondition_32 : decode cX8_readsCondition 32 = .ok (.invokevirtual 194, 3) := dk_182 0 194 (dk_at dksX8_readsCondition_1 8 rfl rfl)
theorem dX8_readsCondition_35 : decode cX8_readsCondition 35 = .ok (.ifCond .ne 5, 3) := dk_154 0 5 (dk_at dksX8_readsCondition_1 11 rfl rfl)
theorem dX8_readsCondition_38 : decode cX8_readsCondition 38 = .ok (.iconst 0, 1) := dk_3 (dk_at dksX8_readsCondition_1 14 rfl rfl)
theorem dX8_readsCondition_39 : decode cX8_readsCondition 39 = .ok (.ireturn, 1) := dk_172 (dk_at dksX8_readsCondition_1 15 rfl rfl)
theorem dX8_readsCondition_40 : decode cX8_readsCondition 40 = .ok (.aload_n 0, 1) := dk_42 (dk_at dksX8_readsCondition_1 16 rfl rfl)
theorem dX8_readsCondition_41 : decode cX8_readsCondition 41 = .ok (.invokevirtual 160, 3) := dk_182 0 160 (dk_at dksX8_readsCondition_1 17 rfl rfl)
theorem dX8_readsCondition_44 : decode cX8_readsCondition 44 = .ok (.bipush 33, 2) := dk_16 33 (dk_at dksX8_readsCondition_1 20 rfl rfl)
theorem dX8_readsCondition_46 : decode cX8_readsCondition 46 = .ok (.if_icmp .eq 12, 3) := dk_159 0 12 (dk_at dksX8_readsCondition_2 0 rfl rfl)
theorem dX8_readsCondition_49 : decode cX8_readsCondition 49 = .ok (.aload_n 0, 1) := dk_42 (dk_at dksX8_readsCondition_2 3 rfl rfl)
theorem dX8_readsCondition_50 : decode cX8_readsCondition 50 = .ok (.invokevirtual 160, 3) := dk_182 0 160 (dk_at dksX8_readsCondition_2 4 rfl rfl)
theorem dX8_readsCondition_53 : decode cX8_readsCondition 53 = .ok (.bipush 40, 2) := dk_16 40 (dk_at dksX8_readsCondition_2 7 rfl rfl)
theorem dX8_readsCondition_55 : decode cX8_readsCondition 55 = .ok (.if_icmp .ne 28, 3) := dk_160 0 28 (dk_at dksX8_readsCondition_2 9 rfl rfl)
theorem dX8_readsCondition_58 : decode cX8_readsCondition 58 = .ok (.aload_n 0, 1) := dk_42 (dk_at dksX8_readsCondition_2 12 rfl rfl)
theorem dX8_readsCondition_59 : decode cX8_readsCondition 59 = .ok (.aload_n 0, 1) := dk_42 (dk_at dksX8_readsCondition_2 13 rfl rfl)
theorem dX8_readsCondition_60 : decode cX8_readsCondition 60 = .ok (.invokevirtual 160, 3) := dk_182 0 160 (dk_at dksX8_readsCondition_2 14 rfl rfl)
theorem dX8_readsCondition_63 : decode cX8_readsCondition 63 = .ok (.bipush 33, 2) := dk_16 33 (dk_at dksX8_readsCondition_2 17 rfl rfl)
theorem dX8_readsCondition_65 : decode cX8_readsCondition 65 = .ok (.if_icmp .ne 8, 3) := dk_160 0 8 (dk_at dksX8_readsCondition_2 19 rfl rfl)
theorem dX8_readsCondition_68 : decode cX8_readsCondition 68 = .ok (.bipush 10, 2) := dk_16 10 (dk_at dksX8_readsCondition_2 22 rfl rfl)
theorem dX8_readsCondition_70 : decode cX8_readsCondition 70 = .ok (.goto 5, 3) := dk_167 0 5 (dk_at dksX8_readsCondition_3 0 rfl rfl)
theorem dX8_readsCondition_73 : decode cX8_readsCondition 73 = .ok (.bipush 13, 2) := dk_16 13 (dk_at dksX8_readsCondition_3 3 rfl rfl)
theorem dX8_readsCondition_75 : decode cX8_readsCondition 75 = .ok (.invokevirtual 194, 3) := dk_182 0 194 (dk_at dksX8_readsCondition_3 5 rfl rfl)
theorem dX8_readsCondition_78 : decode cX8_readsCondition 78 = .ok (.ifCond .ne (-38), 3) := dk_154 255 218 (dk_at dksX8_readsCondition_3 8 rfl rfl)
theorem dX8_readsCondition_81 : decode cX8_readsCondition 81 = .ok (.iconst 0, 1) := dk_3 (dk_at dksX8_readsCondition_3 11 rfl rfl)
theorem dX8_readsCondition_82 : decode cX8_readsCondition 82 = .ok (.ireturn, 1) := dk_172 (dk_at dksX8_readsCondition_3 12 rfl rfl)
theorem dX8_readsCondition_83 : decode cX8_readsCondition 83 = .ok (.aload_n 0, 1) := dk_42 (dk_at dksX8_readsCondition_3 13 rfl rfl)
theorem dX8_readsCondition_84 : decode cX8_readsCondition 84 = .ok (.invokevirtual 222, 3) := dk_182 0 222 (dk_at dksX8_readsCondition_3 14 rfl rfl)
theorem dX8_readsCondition_87 : decode cX8_readsCondition 87 = .ok (.ifCond .ne 5, 3) := dk_154 0 5 (dk_at dksX8_readsCondition_3 17 rfl rfl)
theorem dX8_readsCondition_90 : decode cX8_readsCondition 90 = .ok (.iconst 0, 1) := dk_3 (dk_at dksX8_readsCondition_3 20 rfl rfl)
theorem dX8_readsCondition_91 : decode cX8_readsCondition 91 = .ok (.ireturn, 1) := dk_172 (dk_at dksX8_readsCondition_3 21 rfl rfl)
theorem dX8_readsCondition_92 : decode cX8_readsCondition 92 = .ok (.aload_n 0, 1) := dk_42 (dk_at dksX8_readsCondition_3 22 rfl rfl)
theorem dX8_readsCondition_93 : decode cX8_readsCondition 93 = .ok (.invokevirtual 160, 3) := dk_182 0 160 (dk_at dksX8_readsCondition_4 0 rfl rfl)
theorem dX8_readsCondition_96 : decode cX8_readsCondition 96 = .ok (.bipush 41, 2) := dk_16 41 (dk_at dksX8_readsCondition_4 3 rfl rfl)
theorem dX8_readsCondition_98 : decode cX8_readsCondition 98 = .ok (.if_icmp .ne 54, 3) := dk_160 0 54 (dk_at dksX8_readsCondition_4 5 rfl rfl)
theorem dX8_readsCondition_101 : decode cX8_readsCondition 101 = .ok (.aload_n 0, 1) := dk_42 (dk_at dksX8_readsCondition_4 8 rfl rfl)
theorem dX8_readsCondition_102 : decode cX8_readsCondition 102 = .ok (.iconst 1, 1) := dk_4 (dk_at dksX8_readsCondition_4 9 rfl rfl)
theorem dX8_readsCondition_103 : decode cX8_readsCondition 103 = .ok (.invokevirtual 225, 3) := dk_182 0 225 (dk_at dksX8_readsCondition_4 10 rfl rfl)
theorem dX8_readsCondition_106 : decode cX8_readsCondition 106 = .ok (.aload_n 0, 1) := dk_42 (dk_at dksX8_readsCondition_4 13 rfl rfl)
theorem dX8_readsCondition_107 : decode cX8_readsCondition 107 = .ok (.aload_n 0, 1) := dk_42 (dk_at dksX8_readsCondition_4 14 rfl rfl)
theorem dX8_readsCondition_108 : decode cX8_readsCondition 108 = .ok (.getfield 185, 3) := dk_180 0 185 (dk_at dksX8_readsCondition_4 15 rfl rfl)
theorem dX8_readsCondition_111 : decode cX8_readsCondition 111 = .ok (.iconst 1, 1) := dk_4 (dk_at dksX8_readsCondition_4 18 rfl rfl)
theorem dX8_readsCondition_112 : decode cX8_readsCondition 112 = .ok (.isub, 1) := dk_100 (dk_at dksX8_readsCondition_4 19 rfl rfl)
theorem dX8_readsCondition_113 : decode cX8_readsCondition 113 = .ok (.putfield 185, 3) := dk_181 0 185 (dk_at dksX8_readsCondition_4 20 rfl rfl)
theorem dX8_readsCondition_116 : decode cX8_readsCondition 116 = .ok (.aload_n 0, 1) := dk_42 (dk_at dksX8_readsCondition_4 23 rfl rfl)
theorem dX8_readsCondition_117 : decode cX8_readsCondition 117 = .ok (.aload_n 0, 1) := dk_42 (dk_at dksX8_readsCondition_5 0 rfl rfl)
theorem dX8_readsCondition_118 : decode cX8_readsCondition 118 = .ok (.getfield 182, 3) := dk_180 0 182 (dk_at dksX8_readsCondition_5 1 rfl rfl)
theorem dX8_readsCondition_121 : decode cX8_readsCondition 121 = .ok (.iconst 1, 1) := dk_4 (dk_at dksX8_readsCondition_5 4 rfl rfl)
theorem dX8_readsCondition_122 : decode cX8_readsCondition 122 = .ok (.isub, 1) := dk_100 (dk_at dksX8_readsCondition_5 5 rfl rfl)
theorem dX8_readsCondition_123 : decode cX8_readsCondition 123 = .ok (.putfield 182, 3) := dk_181 0 182 (dk_at dksX8_readsCondition_5 6 rfl rfl)
theorem dX8_readsCondition_126 : decode cX8_readsCondition 126 = .ok (.aload_n 0, 1) := dk_42 (dk_at dksX8_readsCondition_5 9 rfl rfl)
theorem dX8_readsCondition_127 : decode cX8_readsCondition 127 = .ok (.aload_n 0, 1) := dk_42 (dk_at dksX8_readsCondition_5 10 rfl rfl)
theorem dX8_readsCondition_128 : decode cX8_readsCondition 128 = .ok (.getfield 154, 3) := dk_180 0 154 (dk_at dksX8_readsCondition_5 11 rfl rfl)
theorem dX8_readsCondition_131 : decode cX8_readsCondition 131 = .ok (.iconst 1, 1) := dk_4 (dk_at dksX8_readsCondition_5 14 rfl rfl)
theorem dX8_readsCondition_132 : decode cX8_readsCondition 132 = .ok (.iadd, 1) := dk_96 (dk_at dksX8_readsCondition_5 15 rfl rfl)
theorem dX8_readsCondition_133 : decode cX8_readsCondition 133 = .ok (.putfield 154, 3) := dk_181 0 154 (dk_at dksX8_readsCondition_5 16 rfl rfl)
theorem dX8_readsCondition_136 : decode cX8_readsCondition 136 = .ok (.aload_n 0, 1) := dk_42 (dk_at dksX8_readsCondition_5 19 rfl rfl)
theorem dX8_readsCondition_137 : decode cX8_readsCondition 137 = .ok (.getfield 185, 3) := dk_180 0 185 (dk_at dksX8_readsCondition_5 20 rfl rfl)
theorem dX8_readsCondition_140 : decode cX8_readsCondition 140 = .ok (.ifCond .ne 5, 3) := dk_154 0 5 (dk_at dksX8_readsCondition_6 0 rfl rfl)
theorem dX8_readsCondition_143 : decode cX8_readsCondition 143 = .ok (.iconst 1, 1) := dk_4 (dk_at dksX8_readsCondition_6 3 rfl rfl)
theorem dX8_readsCondition_144 : decode cX8_readsCondition 144 = .ok (.ireturn, 1) := dk_172 (dk_at dksX8_readsCondition_6 4 rfl rfl)
theorem dX8_readsCondition_145 : decode cX8_readsCondition 145 = .ok (.aload_n 0, 1) := dk_42 (dk_at dksX8_readsCondition_6 5 rfl rfl)
theorem dX8_readsCondition_146 : decode cX8_readsCondition 146 = .ok (.invokevirtual 219, 3) := dk_182 0 219 (dk_at dksX8_readsCondition_6 6 rfl rfl)
theorem dX8_readsCondition_149 : decode cX8_readsCondition 149 = .ok (.goto (-57), 3) := dk_167 255 199 (dk_at dksX8_readsCondition_6 9 rfl rfl)
theorem dX8_readsCondition_152 : decode cX8_readsCondition 152 = .ok (.aload_n 0, 1) := dk_42 (dk_at dksX8_readsCondition_6 12 rfl rfl)
theorem dX8_readsCondition_153 : decode cX8_readsCondition 153 = .ok (.invokevirtual 160, 3) := dk_182 0 160 (dk_at dksX8_readsCondition_6 13 rfl rfl)
theorem dX8_readsCondition_156 : decode cX8_readsCondition 156 = .ok (.bipush 38, 2) := dk_16 38 (dk_at dksX8_readsCondition_6 16 rfl rfl)
theorem dX8_readsCondition_158 : decode cX8_readsCondition 158 = .ok (.if_icmp .eq 22, 3) := dk_159 0 22 (dk_at dksX8_readsCondition_6 18 rfl rfl)
theorem dX8_readsCondition_161 : decode cX8_readsCondition 161 = .ok (.aload_n 0, 1) := dk_42 (dk_at dksX8_readsCondition_6 21 rfl rfl)
theorem dX8_readsCondition_162 : decode cX8_readsCondition 162 = .ok (.invokevirtual 160, 3) := dk_182 0 160 (dk_at dksX8_readsCondition_7 0 rfl rfl)
theorem dX8_readsCondition_165 : decode cX8_readsCondition 165 = .ok (.bipush 124, 2) := dk_16 124 (dk_at dksX8_readsCondition_7 3 rfl rfl)
theorem dX8_readsCondition_167 : decode cX8_readsCondition 167 = .ok (.if_icmp .eq 13, 3) := dk_159 0 13 (dk_at dksX8_readsCondition_7 5 rfl rfl)
theorem dX8_readsCondition_170 : decode cX8_readsCondition 170 = .ok (.aload_n 0, 1) := dk_42 (dk_at dksX8_readsCondition_7 8 rfl rfl)
theorem dX8_readsCondition_171 : decode cX8_readsCondition 171 = .ok (.iconst 1, 1) := dk_4 (dk_at dksX8_readsCondition_7 9 rfl rfl)
theorem dX8_readsCondition_172 : decode cX8_readsCondition 172 = .ok (.aload_n 0, 1) := dk_42 (dk_at dksX8_readsCondition_7 10 rfl rfl)
theorem dX8_readsCondition_173 : decode cX8_readsCondition 173 = .ok (.getfield 154, 3) := dk_180 0 154 (dk_at dksX8_readsCondition_7 11 rfl rfl)
theorem dX8_readsCondition_176 : decode cX8_readsCondition 176 = .ok (.invokevirtual 167, 3) := dk_182 0 167 (dk_at dksX8_readsCondition_7 14 rfl rfl)
theorem dX8_readsCondition_179 : decode cX8_readsCondition 179 = .ok (.ireturn, 1) := dk_172 (dk_at dksX8_readsCondition_7 17 rfl rfl)
theorem dX8_readsCondition_180 : decode cX8_readsCondition 180 = .ok (.aload_n 0, 1) := dk_42 (dk_at dksX8_readsCondition_7 18 rfl rfl)
theorem dX8_readsCondition_181 : decode cX8_readsCondition 181 = .ok (.aload_n 0, 1) := dk_42 (dk_at dksX8_readsCondition_7 19 rfl rfl)
theorem dX8_readsCondition_182 : decode cX8_readsCondition 182 = .ok (.invokevirtual 160, 3) := dk_182 0 160 (dk_at dksX8_readsCondition_7 20 rfl rfl)
theorem dX8_readsCondition_185 : decode cX8_readsCondition 185 = .ok (.bipush 124, 2) := dk_16 124 (dk_at dksX8_readsCondition_8 0 rfl rfl)
theorem dX8_readsCondition_187 : decode cX8_readsCondition 187 = .ok (.if_icmp .ne 7, 3) := dk_160 0 7 (dk_at dksX8_readsCondition_8 2 rfl rfl)
theorem dX8_readsCondition_190 : decode cX8_readsCondition 190 = .ok (.iconst 1, 1) := dk_4 (dk_at dksX8_readsCondition_8 5 rfl rfl)
theorem dX8_readsCondition_191 : decode cX8_readsCondition 191 = .ok (.goto 4, 3) := dk_167 0 4 (dk_at dksX8_readsCondition_8 6 rfl rfl)
theorem dX8_readsCondition_194 : decode cX8_readsCondition 194 = .ok (.iconst 0, 1) := dk_3 (dk_at dksX8_readsCondition_8 9 rfl rfl)
theorem dX8_readsCondition_195 : decode cX8_readsCondition 195 = .ok (.invokevirtual 225, 3) := dk_182 0 225 (dk_at dksX8_readsCondition_8 10 rfl rfl)
theorem dX8_readsCondition_198 : decode cX8_readsCondition 198 = .ok (.aload_n 0, 1) := dk_42 (dk_at dksX8_readsCondition_8 13 rfl rfl)
theorem dX8_readsCondition_199 : decode cX8_readsCondition 199 = .ok (.aload_n 0, 1) := dk_42 (dk_at dksX8_readsCondition_8 14 rfl rfl)
theorem dX8_readsCondition_200 : decode cX8_readsCondition 200 = .ok (.invokevirtual 160, 3) := dk_182 0 160 (dk_at dksX8_readsCondition_8 15 rfl rfl)
theorem dX8_readsCondition_203 : decode cX8_readsCondition 203 = .ok (.bipush 38, 2) := dk_16 38 (dk_at dksX8_readsCondition_8 18 rfl rfl)
theorem dX8_readsCondition_205 : decode cX8_readsCondition 205 = .ok (.if_icmp .ne 8, 3) := dk_160 0 8 (dk_at dksX8_readsCondition_8 20 rfl rfl)
theorem dX8_readsCondition_208 : decode cX8_readsCondition 208 = .ok (.bipush 11, 2) := dk_16 11 (dk_at dksX8_readsCondition_9 0 rfl rfl)
theorem dX8_readsCondition_210 : decode cX8_readsCondition 210 = .ok (.goto 5, 3) := dk_167 0 5 (dk_at dksX8_readsCondition_9 2 rfl rfl)
theorem dX8_readsCondition_213 : decode cX8_readsCondition 213 = .ok (.bipush 12, 2) := dk_16 12 (dk_at dksX8_readsCondition_9 5 rfl rfl)
theorem dX8_readsCondition_215 : decode cX8_readsCondition 215 = .ok (.invokevirtual 228, 3) := dk_182 0 228 (dk_at dksX8_readsCondition_9 7 rfl rfl)
theorem dX8_readsCondition_218 : decode cX8_readsCondition 218 = .ok (.goto (-178), 3) := dk_167 255 78 (dk_at dksX8_readsCondition_9 10 rfl rfl)
abbrev cX8_readsCompared : ByteArray := prog_18_method_46_code
def yX8_readsCompared : MethodName := ⟨RX8, "readsCompared", "()Z"⟩
def dkwX8_readsCompared_4 : List UInt8 := [182, 0, 219, 4, 172]
abbrev dktX8_readsCompared_4 : List UInt8 := dkwX8_readsCompared_4 ++ []
def dkwX8_readsCompared_3 : List UInt8 := [180, 0, 154, 4, 96, 181, 0, 154, 42, 182, 0, 216, 154, 0, 5, 3, 172, 42, 27, 3, 182, 0, 191, 42]
abbrev dktX8_readsCompared_3 : List UInt8 := dkwX8_readsCompared_3 ++ dktX8_readsCompared_4
def dkwX8_readsCompared_2 : List UInt8 := [167, 0, 4, 2, 60, 27, 2, 160, 0, 13, 42, 4, 42, 180, 0, 154, 182, 0, 167, 172, 42, 42]
abbrev dktX8_readsCompared_2 : List UInt8 := dkwX8_readsCompared_2 ++ dktX8_readsCompared_3
def dkwX8_readsCompared_1 : List UInt8 := [182, 0, 160, 16, 62, 160, 0, 8, 16, 8, 167, 0, 18, 42, 182, 0, 160, 16, 61, 160, 0, 8, 16, 9]
abbrev dktX8_readsCompared_1 : List UInt8 := dkwX8_readsCompared_1 ++ dktX8_readsCompared_2
def dkwX8_readsCompared_0 : List UInt8 := [42, 182, 0, 216, 154, 0, 5, 3, 172, 42, 182, 0, 160, 16, 60, 160, 0, 8, 16, 7, 167, 0, 32, 42]
abbrev dktX8_readsCompared_0 : List UInt8 := dkwX8_readsCompared_0 ++ dktX8_readsCompared_1
theorem dksX8_readsCompared_0 : cX8_readsCompared.data.toList.drop 0 = dktX8_readsCompared_0 := by decide +kernel
theorem dksX8_readsCompared_1 : cX8_readsCompared.data.toList.drop 24 = dktX8_readsCompared_1 := dk_seg dksX8_readsCompared_0 24 rfl rfl
theorem dksX8_readsCompared_2 : cX8_readsCompared.data.toList.drop 48 = dktX8_readsCompared_2 := dk_seg dksX8_readsCompared_1 24 rfl rfl
theorem dksX8_readsCompared_3 : cX8_readsCompared.data.toList.drop 70 = dktX8_readsCompared_3 := dk_seg dksX8_readsCompared_2 22 rfl rfl
theorem dksX8_readsCompared_4 : cX8_readsCompared.data.toList.drop 94 = dktX8_readsCompared_4 := dk_seg dksX8_readsCompared_3 24 rfl rfl
theorem dX8_readsCompared_0 : decode cX8_readsCompared 0 = .ok (.aload_n 0, 1) := dk_42 (dk_at dksX8_readsCompared_0 0 rfl rfl)
theorem dX8_readsCompared_1 : decode cX8_readsCompared 1 = .ok (.invokevirtual 216, 3) := dk_182 0 216 (dk_at dksX8_readsCompared_0 1 rfl rfl)
theorem dX8_readsCompared_4 : decode cX8_readsCompared 4 = .ok (.ifCond .ne 5, 3) := dk_154 0 5 (dk_at dksX8_readsCompared_0 4 rfl rfl)
theorem dX8_readsCompared_7 : decode cX8_readsCompared 7 = .ok (.iconst 0, 1) := dk_3 (dk_at dksX8_readsCompared_0 7 rfl rfl)
theorem dX8_readsCompared_8 : decode cX8_readsCompared 8 = .ok (.ireturn, 1) := dk_172 (dk_at dksX8_readsCompared_0 8 rfl rfl)
theorem dX8_readsCompared_9 : decode cX8_readsCompared 9 = .ok (.aload_n 0, 1) := dk_42 (dk_at dksX8_readsCompared_0 9 rfl rfl)
theorem dX8_readsCompared_10 : decode cX8_readsCompared 10 = .ok (.invokevirtual 160, 3) := dk_182 0 160 (dk_at dksX8_readsCompared_0 10 rfl rfl)
theorem dX8_readsCompared_13 : decode cX8_readsCompared 13 = .ok (.bipush 60, 2) := dk_16 60 (dk_at dksX8_readsCompared_0 13 rfl rfl)
theorem dX8_readsCompared_15 : decode cX8_readsCompared 15 = .ok (.if_icmp .ne 8, 3) := dk_160 0 8 (dk_at dksX8_readsCompared_0 15 rfl rfl)
theorem dX8_readsCompared_18 : decode cX8_readsCompared 18 = .ok (.bipush 7, 2) := dk_16 7 (dk_at dksX8_readsCompared_0 18 rfl rfl)
theorem dX8_readsCompared_20 : decode cX8_readsCompared 20 = .ok (.goto 32, 3) := dk_167 0 32 (dk_at dksX8_readsCompared_0 20 rfl rfl)
theorem dX8_readsCompared_23 : decode cX8_readsCompared 23 = .ok (.aload_n 0, 1) := dk_42 (dk_at dksX8_readsCompared_0 23 rfl rfl)
theorem dX8_readsCompared_24 : decode cX8_readsCompared 24 = .ok (.invokevirtual 160, 3) := dk_182 0 160 (dk_at dksX8_readsCompared_1 0 rfl rfl)
theorem dX8_readsCompared_27 : decode cX8_readsCompared 27 = .ok (.bipush 62, 2) := dk_16 62 (dk_at dksX8_readsCompared_1 3 rfl rfl)
theorem dX8_readsCompared_29 : decode cX8_readsCompared 29 = .ok (.if_icmp .ne 8, 3) := dk_160 0 8 (dk_at dksX8_readsCompared_1 5 rfl rfl)
theorem dX8_readsCompared_32 : decode cX8_readsCompared 32 = .ok (.bipush 8, 2) := dk_16 8 (dk_at dksX8_readsCompared_1 8 rfl rfl)
theorem dX8_readsCompared_34 : decode cX8_readsCompared 34 = .ok (.goto 18, 3) := dk_167 0 18 (dk_at dksX8_readsCompared_1 10 rfl rfl)
theorem dX8_readsCompared_37 : decode cX8_readsCompared 37 = .ok (.aload_n 0, 1) := dk_42 (dk_at dksX8_readsCompared_1 13 rfl rfl)
theorem dX8_readsCompared_38 : decode cX8_readsCompared 38 = .ok (.invokevirtual 160, 3) := dk_182 0 160 (dk_at dksX8_readsCompared_1 14 rfl rfl)
theorem dX8_readsCompared_41 : decode cX8_readsCompared 41 = .ok (.bipush 61, 2) := dk_16 61 (dk_at dksX8_readsCompared_1 17 rfl rfl)
theorem dX8_readsCompared_43 : decode cX8_readsCompared 43 = .ok (.if_icmp .ne 8, 3) := dk_160 0 8 (dk_at dksX8_readsCompared_1 19 rfl rfl)
theorem dX8_readsCompared_46 : decode cX8_readsCompared 46 = .ok (.bipush 9, 2) := dk_16 9 (dk_at dksX8_readsCompared_1 22 rfl rfl)
theorem dX8_readsCompared_48 : decode cX8_readsCompared 48 = .ok (.goto 4, 3) := dk_167 0 4 (dk_at dksX8_readsCompared_2 0 rfl rfl)
theorem dX8_readsCompared_51 : decode cX8_readsCompared 51 = .ok (.iconst (-1), 1) := dk_2 (dk_at dksX8_readsCompared_2 3 rfl rfl)
theorem dX8_readsCompared_52 : decode cX8_readsCompared 52 = .ok (.istore_n 1, 1) := dk_60 (dk_at dksX8_readsCompared_2 4 rfl rfl)
theorem dX8_readsCompared_53 : decode cX8_readsCompared 53 = .ok (.iload_n 1, 1) := dk_27 (dk_at dksX8_readsCompared_2 5 rfl rfl)
theorem dX8_readsCompared_54 : decode cX8_readsCompared 54 = .ok (.iconst (-1), 1) := dk_2 (dk_at dksX8_readsCompared_2 6 rfl rfl)
theorem dX8_readsCompared_55 : decode cX8_readsCompared 55 = .ok (.if_icmp .ne 13, 3) := dk_160 0 13 (dk_at dksX8_readsCompared_2 7 rfl rfl)
theorem dX8_readsCompared_58 : decode cX8_readsCompared 58 = .ok (.aload_n 0, 1) := dk_42 (dk_at dksX8_readsCompared_2 10 rfl rfl)
theorem dX8_readsCompared_59 : decode cX8_readsCompared 59 = .ok (.iconst 1, 1) := dk_4 (dk_at dksX8_readsCompared_2 11 rfl rfl)
theorem dX8_readsCompared_60 : decode cX8_readsCompared 60 = .ok (.aload_n 0, 1) := dk_42 (dk_at dksX8_readsCompared_2 12 rfl rfl)
theorem dX8_readsCompared_61 : decode cX8_readsCompared 61 = .ok (.getfield 154, 3) := dk_180 0 154 (dk_at dksX8_readsCompared_2 13 rfl rfl)
theorem dX8_readsCompared_64 : decode cX8_readsCompared 64 = .ok (.invokevirtual 167, 3) := dk_182 0 167 (dk_at dksX8_readsCompared_2 16 rfl rfl)
theorem dX8_readsCompared_67 : decode cX8_readsCompared 67 = .ok (.ireturn, 1) := dk_172 (dk_at dksX8_readsCompared_2 19 rfl rfl)
theorem dX8_readsCompared_68 : decode cX8_readsCompared 68 = .ok (.aload_n 0, 1) := dk_42 (dk_at dksX8_readsCompared_2 20 rfl rfl)
theorem dX8_readsCompared_69 : decode cX8_readsCompared 69 = .ok (.aload_n 0, 1) := dk_42 (dk_at dksX8_readsCompared_2 21 rfl rfl)
theorem dX8_readsCompared_70 : decode cX8_readsCompared 70 = .ok (.getfield 154, 3) := dk_180 0 154 (dk_at dksX8_readsCompared_3 0 rfl rfl)
theorem dX8_readsCompared_73 : decode cX8_readsCompared 73 = .ok (.iconst 1, 1) := dk_4 (dk_at dksX8_readsCompared_3 3 rfl rfl)
theorem dX8_readsCompared_74 : decode cX8_readsCompared 74 = .ok (.iadd, 1) := dk_96 (dk_at dksX8_readsCompared_3 4 rfl rfl)
theorem dX8_readsCompared_75 : decode cX8_readsCompared 75 = .ok (.putfield 154, 3) := dk_181 0 154 (dk_at dksX8_readsCompared_3 5 rfl rfl)
theorem dX8_readsCompared_78 : decode cX8_readsCompared 78 = .ok (.aload_n 0, 1) := dk_42 (dk_at dksX8_readsCompared_3 8 rfl rfl)
theorem dX8_readsCompared_79 : decode cX8_readsCompared 79 = .ok (.invokevirtual 216, 3) := dk_182 0 216 (dk_at dksX8_readsCompared_3 9 rfl rfl)
theorem dX8_readsCompared_82 : decode cX8_readsCompared 82 = .ok (.ifCond .ne 5, 3) := dk_154 0 5 (dk_at dksX8_readsCompared_3 12 rfl rfl)
theorem dX8_readsCompared_85 : decode cX8_readsCompared 85 = .ok (.iconst 0, 1) := dk_3 (dk_at dksX8_readsCompared_3 15 rfl rfl)
theorem dX8_readsCompared_86 : decode cX8_readsCompared 86 = .ok (.ireturn, 1) := dk_172 (dk_at dksX8_readsCompared_3 16 rfl rfl)
theorem dX8_readsCompared_87 : decode cX8_readsCompared 87 = .ok (.aload_n 0, 1) := dk_42 (dk_at dksX8_readsCompared_3 17 rfl rfl)
theorem dX8_readsCompared_88 : decode cX8_readsCompared 88 = .ok (.iload_n 1, 1) := dk_27 (dk_at dksX8_readsCompared_3 18 rfl rfl)
theorem dX8_readsCompared_89 : decode cX8_readsCompared 89 = .ok (.iconst 0, 1) := dk_3 (dk_at dksX8_readsCompared_3 19 rfl rfl)
theorem dX8_readsCompared_90 : decode cX8_readsCompared 90 = .ok (.invokevirtual 191, 3) := dk_182 0 191 (dk_at dksX8_readsCompared_3 20 rfl rfl)
theorem dX8_readsCompared_93 : decode cX8_readsCompared 93 = .ok (.aload_n 0, 1) := dk_42 (dk_at dksX8_readsCompared_3 23 rfl rfl)
theorem dX8_readsCompared_94 : decode cX8_readsCompared 94 = .ok (.invokevirtual 219, 3) := dk_182 0 219 (dk_at dksX8_readsCompared_4 0 rfl rfl)
theorem dX8_readsCompared_97 : decode cX8_readsCompared 97 = .ok (.iconst 1, 1) := dk_4 (dk_at dksX8_readsCompared_4 3 rfl rfl)
theorem dX8_readsCompared_98 : decode cX8_readsCompared 98 = .ok (.ireturn, 1) := dk_172 (dk_at dksX8_readsCompared_4 4 rfl rfl)
abbrev cX8_endsPiece : ByteArray := prog_18_method_43_code
def yX8_endsPiece : MethodName := ⟨RX8, "endsPiece", "()V"⟩
def dkwX8_endsPiece_1 : List UInt8 := [181, 0, 185, 42, 42, 180, 0, 182, 4, 100, 181, 0, 182, 167, 255, 220, 177]
abbrev dktX8_endsPiece_1 : List UInt8 := dkwX8_endsPiece_1 ++ []
def dkwX8_endsPiece_0 : List UInt8 := [42, 182, 0, 188, 16, 10, 160, 0, 33, 42, 16, 10, 3, 182, 0, 191, 42, 42, 180, 0, 185, 4, 100]
abbrev dktX8_endsPiece_0 : List UInt8 := dkwX8_endsPiece_0 ++ dktX8_endsPiece_1
theorem dksX8_endsPiece_0 : cX8_endsPiece.data.toList.drop 0 = dktX8_endsPiece_0 := by decide +kernel
theorem dksX8_endsPiece_1 : cX8_endsPiece.data.toList.drop 23 = dktX8_endsPiece_1 := dk_seg dksX8_endsPiece_0 23 rfl rfl
theorem dX8_endsPiece_0 : decode cX8_endsPiece 0 = .ok (.aload_n 0, 1) := dk_42 (dk_at dksX8_endsPiece_0 0 rfl rfl)
theorem dX8_endsPiece_1 : decode cX8_endsPiece 1 = .ok (.invokevirtual 188, 3) := dk_182 0 188 (dk_at dksX8_endsPiece_0 1 rfl rfl)
theorem dX8_endsPiece_4 : decode cX8_endsPiece 4 = .ok (.bipush 10, 2) := dk_16 10 (dk_at dksX8_endsPiece_0 4 rfl rfl)
theorem dX8_endsPiece_6 : decode cX8_endsPiece 6 = .ok (.if_icmp .ne 33, 3) := dk_160 0 33 (dk_at dksX8_endsPiece_0 6 rfl rfl)
theorem dX8_endsPiece_9 : decode cX8_endsPiece 9 = .ok (.aload_n 0, 1) := dk_42 (dk_at dksX8_endsPiece_0 9 rfl rfl)
theorem dX8_endsPiece_10 : decode cX8_endsPiece 10 = .ok (.bipush 10, 2) := dk_16 10 (dk_at dksX8_endsPiece_0 10 rfl rfl)
theorem dX8_endsPiece_12 : decode cX8_endsPiece 12 = .ok (.iconst 0, 1) := dk_3 (dk_at dksX8_endsPiece_0 12 rfl rfl)
theorem dX8_endsPiece_13 : decode cX8_endsPiece 13 = .ok (.invokevirtual 191, 3) := dk_182 0 191 (dk_at dksX8_endsPiece_0 13 rfl rfl)
theorem dX8_endsPiece_16 : decode cX8_endsPiece 16 = .ok (.aload_n 0, 1) := dk_42 (dk_at dksX8_endsPiece_0 16 rfl rfl)
theorem dX8_endsPiece_17 : decode cX8_endsPiece 17 = .ok (.aload_n 0, 1) := dk_42 (dk_at dksX8_endsPiece_0 17 rfl rfl)
theorem dX8_endsPiece_18 : decode cX8_endsPiece 18 = .ok (.getfield 185, 3) := dk_180 0 185 (dk_at dksX8_endsPiece_0 18 rfl rfl)
theorem dX8_endsPiece_21 : decode cX8_endsPiece 21 = .ok (.iconst 1, 1) := dk_4 (dk_at dksX8_endsPiece_0 21 rfl rfl)
theorem dX8_endsPiece_22 : decode cX8_endsPiece 22 = .ok (.isub, 1) := dk_100 (dk_at dksX8_endsPiece_0 22 rfl rfl)
theorem dX8_endsPiece_23 : decode cX8_endsPiece 23 = .ok (.putfield 185, 3) := dk_181 0 185 (dk_at dksX8_endsPiece_1 0 rfl rfl)
theorem dX8_endsPiece_26 : decode cX8_endsPiece 26 = .ok (.aload_n 0, 1) := dk_42 (dk_at dksX8_endsPiece_1 3 rfl rfl)
theorem dX8_endsPiece_27 : decode cX8_endsPiece 27 = .ok (.aload_n 0, 1) := dk_42 (dk_at dksX8_endsPiece_1 4 rfl rfl)
theorem dX8_endsPiece_28 : decode cX8_endsPiece 28 = .ok (.getfield 182, 3) := dk_180 0 182 (dk_at dksX8_endsPiece_1 5 rfl rfl)
theorem dX8_endsPiece_31 : decode cX8_endsPiece 31 = .ok (.iconst 1, 1) := dk_4 (dk_at dksX8_endsPiece_1 8 rfl rfl)
theorem dX8_endsPiece_32 : decode cX8_endsPiece 32 = .ok (.isub, 1) := dk_100 (dk_at dksX8_endsPiece_1 9 rfl rfl)
theorem dX8_endsPiece_33 : decode cX8_endsPiece 33 = .ok (.putfield 182, 3) := dk_181 0 182 (dk_at dksX8_endsPiece_1 10 rfl rfl)
theorem dX8_endsPiece_36 : decode cX8_endsPiece 36 = .ok (.goto (-36), 3) := dk_167 255 220 (dk_at dksX8_endsPiece_1 13 rfl rfl)
theorem dX8_endsPiece_39 : decode cX8_endsPiece 39 = .ok (.return_, 1) := dk_177 (dk_at dksX8_endsPiece_1 16 rfl rfl)
abbrev cX8_lands : ByteArray := prog_18_method_44_code
def yX8_lands : MethodName := ⟨RX8, "lands", "(Z)V"⟩
def dkwX8_lands_3 : List UInt8 := [181, 0, 185, 167, 255, 186, 177]
abbrev dktX8_lands_3 : List UInt8 := dkwX8_lands_3 ++ []
def dkwX8_lands_2 : List UInt8 := [180, 0, 29, 28, 46, 18, 181, 108, 104, 42, 180, 0, 178, 96, 79, 42, 42, 180, 0, 185, 4, 100]
abbrev dktX8_lands_2 : List UInt8 := dkwX8_lands_2 ++ dktX8_lands_3
def dkwX8_lands_1 : List UInt8 := [180, 0, 32, 42, 180, 0, 185, 4, 100, 46, 18, 181, 112, 61, 42, 180, 0, 29, 28, 18, 181, 42]
abbrev dktX8_lands_1 : List UInt8 := dkwX8_lands_1 ++ dktX8_lands_2
def dkwX8_lands_0 : List UInt8 := [42, 182, 0, 188, 16, 11, 159, 0, 16, 27, 153, 0, 63, 42, 182, 0, 188, 16, 12, 160, 0, 54, 42]
abbrev dktX8_lands_0 : List UInt8 := dkwX8_lands_0 ++ dktX8_lands_1
theorem dksX8_lands_0 : cX8_lands.data.toList.drop 0 = dktX8_lands_0 := by decide +kernel
theorem dksX8_lands_1 : cX8_lands.data.toList.drop 23 = dktX8_lands_1 := dk_seg dksX8_lands_0 23 rfl rfl
theorem dksX8_lands_2 : cX8_lands.data.toList.drop 45 = dktX8_lands_2 := dk_seg dksX8_lands_1 22 rfl rfl
theorem dksX8_lands_3 : cX8_lands.data.toList.drop 67 = dktX8_lands_3 := dk_seg dksX8_lands_2 22 rfl rfl
theorem dX8_lands_0 : decode cX8_lands 0 = .ok (.aload_n 0, 1) := dk_42 (dk_at dksX8_lands_0 0 rfl rfl)
theorem dX8_lands_1 : decode cX8_lands 1 = .ok (.invokevirtual 188, 3) := dk_182 0 188 (dk_at dksX8_lands_0 1 rfl rfl)
theorem dX8_lands_4 : decode cX8_lands 4 = .ok (.bipush 11, 2) := dk_16 11 (dk_at dksX8_lands_0 4 rfl rfl)
theorem dX8_lands_6 : decode cX8_lands 6 = .ok (.if_icmp .eq 16, 3) := dk_159 0 16 (dk_at dksX8_lands_0 6 rfl rfl)
theorem dX8_lands_9 : decode cX8_lands 9 = .ok (.iload_n 1, 1) := dk_27 (dk_at dksX8_lands_0 9 rfl rfl)
theorem dX8_lands_10 : decode cX8_lands 10 = .ok (.ifCond .eq 63, 3) := dk_153 0 63 (dk_at dksX8_lands_0 10 rfl rfl)
theorem dX8_lands_13 : decode cX8_lands 13 = .ok (.aload_n 0, 1) := dk_42 (dk_at dksX8_lands_0 13 rfl rfl)
theorem dX8_lands_14 : decode cX8_lands 14 = .ok (.invokevirtual 188, 3) := dk_182 0 188 (dk_at dksX8_lands_0 14 rfl rfl)
theorem dX8_lands_17 : decode cX8_lands 17 = .ok (.bipush 12, 2) := dk_16 12 (dk_at dksX8_lands_0 17 rfl rfl)
theorem dX8_lands_19 : decode cX8_lands 19 = .ok (.if_icmp .ne 54, 3) := dk_160 0 54 (dk_at dksX8_lands_0 19 rfl rfl)
theorem dX8_lands_22 : decode cX8_lands 22 = .ok (.aload_n 0, 1) := dk_42 (dk_at dksX8_lands_0 22 rfl rfl)
theorem dX8_lands_23 : decode cX8_lands 23 = .ok (.getfield 32, 3) := dk_180 0 32 (dk_at dksX8_lands_1 0 rfl rfl)
theorem dX8_lands_26 : decode cX8_lands 26 = .ok (.aload_n 0, 1) := dk_42 (dk_at dksX8_lands_1 3 rfl rfl)
theorem dX8_lands_27 : decode cX8_lands 27 = .ok (.getfield 185, 3) := dk_180 0 185 (dk_at dksX8_lands_1 4 rfl rfl)
theorem dX8_lands_30 : decode cX8_lands 30 = .ok (.iconst 1, 1) := dk_4 (dk_at dksX8_lands_1 7 rfl rfl)
theorem dX8_lands_31 : decode cX8_lands 31 = .ok (.isub, 1) := dk_100 (dk_at dksX8_lands_1 8 rfl rfl)
theorem dX8_lands_32 : decode cX8_lands 32 = .ok (.iaload, 1) := dk_46 (dk_at dksX8_lands_1 9 rfl rfl)
theorem dX8_lands_33 : decode cX8_lands 33 = .ok (.ldc 181, 2) := dk_18 181 (dk_at dksX8_lands_1 10 rfl rfl)
theorem dX8_lands_35 : decode cX8_lands 35 = .ok (.irem, 1) := dk_112 (dk_at dksX8_lands_1 12 rfl rfl)
theorem dX8_lands_36 : decode cX8_lands 36 = .ok (.istore_n 2, 1) := dk_61 (dk_at dksX8_lands_1 13 rfl rfl)
theorem dX8_lands_37 : decode cX8_lands 37 = .ok (.aload_n 0, 1) := dk_42 (dk_at dksX8_lands_1 14 rfl rfl)
theorem dX8_lands_38 : decode cX8_lands 38 = .ok (.getfield 29, 3) := dk_180 0 29 (dk_at dksX8_lands_1 15 rfl rfl)
theorem dX8_lands_41 : decode cX8_lands 41 = .ok (.iload_n 2, 1) := dk_28 (dk_at dksX8_lands_1 18 rfl rfl)
theorem dX8_lands_42 : decode cX8_lands 42 = .ok (.ldc 181, 2) := dk_18 181 (dk_at dksX8_lands_1 19 rfl rfl)
theorem dX8_lands_44 : decode cX8_lands 44 = .ok (.aload_n 0, 1) := dk_42 (dk_at dksX8_lands_1 21 rfl rfl)
theorem dX8_lands_45 : decode cX8_lands 45 = .ok (.getfield 29, 3) := dk_180 0 29 (dk_at dksX8_lands_2 0 rfl rfl)
theorem dX8_lands_48 : decode cX8_lands 48 = .ok (.iload_n 2, 1) := dk_28 (dk_at dksX8_lands_2 3 rfl rfl)
theorem dX8_lands_49 : decode cX8_lands 49 = .ok (.iaload, 1) := dk_46 (dk_at dksX8_lands_2 4 rfl rfl)
theorem dX8_lands_50 : decode cX8_lands 50 = .ok (.ldc 181, 2) := dk_18 181 (dk_at dksX8_lands_2 5 rfl rfl)
theorem dX8_lands_52 : decode cX8_lands 52 = .ok (.idiv, 1) := dk_108 (dk_at dksX8_lands_2 7 rfl rfl)
theorem dX8_lands_53 : decode cX8_lands 53 = .ok (.imul, 1) := dk_104 (dk_at dksX8_lands_2 8 rfl rfl)
theorem dX8_lands_54 : decode cX8_lands 54 = .ok (.aload_n 0, 1) := dk_42 (dk_at dksX8_lands_2 9 rfl rfl)
theorem dX8_lands_55 : decode cX8_lands 55 = .ok (.getfield 178, 3) := dk_180 0 178 (dk_at dksX8_lands_2 10 rfl rfl)
theorem dX8_lands_58 : decode cX8_lands 58 = .ok (.iadd, 1) := dk_96 (dk_at dksX8_lands_2 13 rfl rfl)
theorem dX8_lands_59 : decode cX8_lands 59 = .ok (.iastore, 1) := dk_79 (dk_at dksX8_lands_2 14 rfl rfl)
theorem dX8_lands_60 : decode cX8_lands 60 = .ok (.aload_n 0, 1) := dk_42 (dk_at dksX8_lands_2 15 rfl rfl)
theorem dX8_lands_61 : decode cX8_lands 61 = .ok (.aload_n 0, 1) := dk_42 (dk_at dksX8_lands_2 16 rfl rfl)
theorem dX8_lands_62 : decode cX8_lands 62 = .ok (.getfield 185, 3) := dk_180 0 185 (dk_at dksX8_lands_2 17 rfl rfl)
theorem dX8_lands_65 : decode cX8_lands 65 = .ok (.iconst 1, 1) := dk_4 (dk_at dksX8_lands_2 20 rfl rfl)
theorem dX8_lands_66 : decode cX8_lands 66 = .ok (.isub, 1) := dk_100 (dk_at dksX8_lands_2 21 rfl rfl)
theorem dX8_lands_67 : decode cX8_lands 67 = .ok (.putfield 185, 3) := dk_181 0 185 (dk_at dksX8_lands_3 0 rfl rfl)
theorem dX8_lands_70 : decode cX8_lands 70 = .ok (.goto (-70), 3) := dk_167 255 186 (dk_at dksX8_lands_3 3 rfl rfl)
theorem dX8_lands_73 : decode cX8_lands 73 = .ok (.return_, 1) := dk_177 (dk_at dksX8_lands_3 6 rfl rfl)
abbrev cX8_jumps : ByteArray := prog_18_method_45_code
def yX8_jumps : MethodName := ⟨RX8, "jumps", "(I)V"⟩
def dkwX8_jumps_1 : List UInt8 := [96, 181, 0, 185, 42, 27, 3, 182, 0, 191, 42, 42, 180, 0, 154, 4, 96, 181, 0, 154, 177]
abbrev dktX8_jumps_1 : List UInt8 := dkwX8_jumps_1 ++ []
def dkwX8_jumps_0 : List UInt8 := [42, 180, 0, 32, 42, 180, 0, 185, 18, 181, 27, 104, 42, 180, 0, 178, 96, 79, 42, 42, 180, 0, 185, 4]
abbrev dktX8_jumps_0 : List UInt8 := dkwX8_jumps_0 ++ dktX8_jumps_1
theorem dksX8_jumps_0 : cX8_jumps.data.toList.drop 0 = dktX8_jumps_0 := by decide +kernel
theorem dksX8_jumps_1 : cX8_jumps.data.toList.drop 24 = dktX8_jumps_1 := dk_seg dksX8_jumps_0 24 rfl rfl
theorem dX8_jumps_0 : decode cX8_jumps 0 = .ok (.aload_n 0, 1) := dk_42 (dk_at dksX8_jumps_0 0 rfl rfl)
theorem dX8_jumps_1 : decode cX8_jumps 1 = .ok (.getfield 32, 3) := dk_180 0 32 (dk_at dksX8_jumps_0 1 rfl rfl)
theorem dX8_jumps_4 : decode cX8_jumps 4 = .ok (.aload_n 0, 1) := dk_42 (dk_at dksX8_jumps_0 4 rfl rfl)
theorem dX8_jumps_5 : decode cX8_jumps 5 = .ok (.getfield 185, 3) := dk_180 0 185 (dk_at dksX8_jumps_0 5 rfl rfl)
theorem dX8_jumps_8 : decode cX8_jumps 8 = .ok (.ldc 181, 2) := dk_18 181 (dk_at dksX8_jumps_0 8 rfl rfl)
theorem dX8_jumps_10 : decode cX8_jumps 10 = .ok (.iload_n 1, 1) := dk_27 (dk_at dksX8_jumps_0 10 rfl rfl)
theorem dX8_jumps_11 : decode cX8_jumps 11 = .ok (.imul, 1) := dk_104 (dk_at dksX8_jumps_0 11 rfl rfl)
theorem dX8_jumps_12 : decode cX8_jumps 12 = .ok (.aload_n 0, 1) := dk_42 (dk_at dksX8_jumps_0 12 rfl rfl)
theorem dX8_jumps_13 : decode cX8_jumps 13 = .ok (.getfield 178, 3) := dk_180 0 178 (dk_at dksX8_jumps_0 13 rfl rfl)
theorem dX8_jumps_16 : decode cX8_jumps 16 = .ok (.iadd, 1) := dk_96 (dk_at dksX8_jumps_0 16 rfl rfl)
theorem dX8_jumps_17 : decode cX8_jumps 17 = .ok (.iastore, 1) := dk_79 (dk_at dksX8_jumps_0 17 rfl rfl)
theorem dX8_jumps_18 : decode cX8_jumps 18 = .ok (.aload_n 0, 1) := dk_42 (dk_at dksX8_jumps_0 18 rfl rfl)
theorem dX8_jumps_19 : decode cX8_jumps 19 = .ok (.aload_n 0, 1) := dk_42 (dk_at dksX8_jumps_0 19 rfl rfl)
theorem dX8_jumps_20 : decode cX8_jumps 20 = .ok (.getfield 185, 3) := dk_180 0 185 (dk_at dksX8_jumps_0 20 rfl rfl)
theorem dX8_jumps_23 : decode cX8_jumps 23 = .ok (.iconst 1, 1) := dk_4 (dk_at dksX8_jumps_0 23 rfl rfl)
theorem dX8_jumps_24 : decode cX8_jumps 24 = .ok (.iadd, 1) := dk_96 (dk_at dksX8_jumps_1 0 rfl rfl)
theorem dX8_jumps_25 : decode cX8_jumps 25 = .ok (.putfield 185, 3) := dk_181 0 185 (dk_at dksX8_jumps_1 1 rfl rfl)
theorem dX8_jumps_28 : decode cX8_jumps 28 = .ok (.aload_n 0, 1) := dk_42 (dk_at dksX8_jumps_1 4 rfl rfl)
theorem dX8_jumps_29 : decode cX8_jumps 29 = .ok (.iload_n 1, 1) := dk_27 (dk_at dksX8_jumps_1 5 rfl rfl)
theorem dX8_jumps_30 : decode cX8_jumps 30 = .ok (.iconst 0, 1) := dk_3 (dk_at dksX8_jumps_1 6 rfl rfl)
theorem dX8_jumps_31 : decode cX8_jumps 31 = .ok (.invokevirtual 191, 3) := dk_182 0 191 (dk_at dksX8_jumps_1 7 rfl rfl)
theorem dX8_jumps_34 : decode cX8_jumps 34 = .ok (.aload_n 0, 1) := dk_42 (dk_at dksX8_jumps_1 10 rfl rfl)
theorem dX8_jumps_35 : decode cX8_jumps 35 = .ok (.aload_n 0, 1) := dk_42 (dk_at dksX8_jumps_1 11 rfl rfl)
theorem dX8_jumps_36 : decode cX8_jumps 36 = .ok (.getfield 154, 3) := dk_180 0 154 (dk_at dksX8_jumps_1 12 rfl rfl)
theorem dX8_jumps_39 : decode cX8_jumps 39 = .ok (.iconst 1, 1) := dk_4 (dk_at dksX8_jumps_1 15 rfl rfl)
theorem dX8_jumps_40 : decode cX8_jumps 40 = .ok (.iadd, 1) := dk_96 (dk_at dksX8_jumps_1 16 rfl rfl)
theorem dX8_jumps_41 : decode cX8_jumps 41 = .ok (.putfield 154, 3) := dk_181 0 154 (dk_at dksX8_jumps_1 17 rfl rfl)
theorem dX8_jumps_44 : decode cX8_jumps 44 = .ok (.return_, 1) := dk_177 (dk_at dksX8_jumps_1 20 rfl rfl)
abbrev cX8_takes : ByteArray := prog_18_method_32_code
def yX8_takes : MethodName := ⟨RX8, "takes", "(I)Z"⟩
def dkwX8_takes_1 : List UInt8 := [96, 181, 0, 154, 4, 172]
abbrev dktX8_takes_1 : List UInt8 := dkwX8_takes_1 ++ []
def dkwX8_takes_0 : List UInt8 := [42, 182, 0, 160, 27, 159, 0, 13, 42, 4, 42, 180, 0, 154, 182, 0, 167, 172, 42, 42, 180, 0, 154, 4]
abbrev dktX8_takes_0 : List UInt8 := dkwX8_takes_0 ++ dktX8_takes_1
theorem dksX8_takes_0 : cX8_takes.data.toList.drop 0 = dktX8_takes_0 := by decide +kernel
theorem dksX8_takes_1 : cX8_takes.data.toList.drop 24 = dktX8_takes_1 := dk_seg dksX8_takes_0 24 rfl rfl
theorem dX8_takes_0 : decode cX8_takes 0 = .ok (.aload_n 0, 1) := dk_42 (dk_at dksX8_takes_0 0 rfl rfl)
theorem dX8_takes_1 : decode cX8_takes 1 = .ok (.invokevirtual 160, 3) := dk_182 0 160 (dk_at dksX8_takes_0 1 rfl rfl)
theorem dX8_takes_4 : decode cX8_takes 4 = .ok (.iload_n 1, 1) := dk_27 (dk_at dksX8_takes_0 4 rfl rfl)
theorem dX8_takes_5 : decode cX8_takes 5 = .ok (.if_icmp .eq 13, 3) := dk_159 0 13 (dk_at dksX8_takes_0 5 rfl rfl)
theorem dX8_takes_8 : decode cX8_takes 8 = .ok (.aload_n 0, 1) := dk_42 (dk_at dksX8_takes_0 8 rfl rfl)
theorem dX8_takes_9 : decode cX8_takes 9 = .ok (.iconst 1, 1) := dk_4 (dk_at dksX8_takes_0 9 rfl rfl)
theorem dX8_takes_10 : decode cX8_takes 10 = .ok (.aload_n 0, 1) := dk_42 (dk_at dksX8_takes_0 10 rfl rfl)
theorem dX8_takes_11 : decode cX8_takes 11 = .ok (.getfield 154, 3) := dk_180 0 154 (dk_at dksX8_takes_0 11 rfl rfl)
theorem dX8_takes_14 : decode cX8_takes 14 = .ok (.invokevirtual 167, 3) := dk_182 0 167 (dk_at dksX8_takes_0 14 rfl rfl)
theorem dX8_takes_17 : decode cX8_takes 17 = .ok (.ireturn, 1) := dk_172 (dk_at dksX8_takes_0 17 rfl rfl)
theorem dX8_takes_18 : decode cX8_takes 18 = .ok (.aload_n 0, 1) := dk_42 (dk_at dksX8_takes_0 18 rfl rfl)
theorem dX8_takes_19 : decode cX8_takes 19 = .ok (.aload_n 0, 1) := dk_42 (dk_at dksX8_takes_0 19 rfl rfl)
theorem dX8_takes_20 : decode cX8_takes 20 = .ok (.getfield 154, 3) := dk_180 0 154 (dk_at dksX8_takes_0 20 rfl rfl)
theorem dX8_takes_23 : decode cX8_takes 23 = .ok (.iconst 1, 1) := dk_4 (dk_at dksX8_takes_0 23 rfl rfl)
theorem dX8_takes_24 : decode cX8_takes 24 = .ok (.iadd, 1) := dk_96 (dk_at dksX8_takes_1 0 rfl rfl)
theorem dX8_takes_25 : decode cX8_takes 25 = .ok (.putfield 154, 3) := dk_181 0 154 (dk_at dksX8_takes_1 1 rfl rfl)
theorem dX8_takes_28 : decode cX8_takes 28 = .ok (.iconst 1, 1) := dk_4 (dk_at dksX8_takes_1 4 rfl rfl)
theorem dX8_takes_29 : decode cX8_takes 29 = .ok (.ireturn, 1) := dk_172 (dk_at dksX8_takes_1 5 rfl rfl)
abbrev cX8_ticks : ByteArray := prog_18_method_97_code
def yX8_ticks : MethodName := ⟨RX8, "ticks", "(I)I"⟩
def dkwX8_ticks_0 : List UInt8 := [27, 4, 17, 0, 200, 184, 0, 93, 154, 0, 5, 2, 172, 42, 27, 182, 1, 155, 42, 180, 1, 64, 172]
abbrev dktX8_ticks_0 : List UInt8 := dkwX8_ticks_0 ++ []
theorem dksX8_ticks_0 : cX8_ticks.data.toList.drop 0 = dktX8_ticks_0 := by decide +kernel
theorem dX8_ticks_0 : decode cX8_ticks 0 = .ok (.iload_n 1, 1) := dk_27 (dk_at dksX8_ticks_0 0 rfl rfl)
theorem dX8_ticks_1 : decode cX8_ticks 1 = .ok (.iconst 1, 1) := dk_4 (dk_at dksX8_ticks_0 1 rfl rfl)
theorem dX8_ticks_2 : decode cX8_ticks 2 = .ok (.sipush 200, 3) := dk_17 0 200 (dk_at dksX8_ticks_0 2 rfl rfl)
theorem dX8_ticks_5 : decode cX8_ticks 5 = .ok (.invokestatic 93, 3) := dk_184 0 93 (dk_at dksX8_ticks_0 5 rfl rfl)
theorem dX8_ticks_8 : decode cX8_ticks 8 = .ok (.ifCond .ne 5, 3) := dk_154 0 5 (dk_at dksX8_ticks_0 8 rfl rfl)
theorem dX8_ticks_11 : decode cX8_ticks 11 = .ok (.iconst (-1), 1) := dk_2 (dk_at dksX8_ticks_0 11 rfl rfl)
theorem dX8_ticks_12 : decode cX8_ticks 12 = .ok (.ireturn, 1) := dk_172 (dk_at dksX8_ticks_0 12 rfl rfl)
theorem dX8_ticks_13 : decode cX8_ticks 13 = .ok (.aload_n 0, 1) := dk_42 (dk_at dksX8_ticks_0 13 rfl rfl)
theorem dX8_ticks_14 : decode cX8_ticks 14 = .ok (.iload_n 1, 1) := dk_27 (dk_at dksX8_ticks_0 14 rfl rfl)
theorem dX8_ticks_15 : decode cX8_ticks 15 = .ok (.invokevirtual 411, 3) := dk_182 1 155 (dk_at dksX8_ticks_0 15 rfl rfl)
theorem dX8_ticks_18 : decode cX8_ticks 18 = .ok (.aload_n 0, 1) := dk_42 (dk_at dksX8_ticks_0 18 rfl rfl)
theorem dX8_ticks_19 : decode cX8_ticks 19 = .ok (.getfield 320, 3) := dk_180 1 64 (dk_at dksX8_ticks_0 19 rfl rfl)
theorem dX8_ticks_22 : decode cX8_ticks 22 = .ok (.ireturn, 1) := dk_172 (dk_at dksX8_ticks_0 22 rfl rfl)
abbrev cX8_ticksGo : ByteArray := prog_18_method_96_code
def yX8_ticksGo : MethodName := ⟨RX8, "ticksGo", "(I)V"⟩
def dkwX8_ticksGo_0 : List UInt8 := [42, 3, 181, 1, 64, 3, 61, 28, 27, 162, 0, 14, 42, 182, 1, 152, 87, 132, 2, 1, 167, 255, 243, 177]
abbrev dktX8_ticksGo_0 : List UInt8 := dkwX8_ticksGo_0 ++ []
theorem dksX8_ticksGo_0 : cX8_ticksGo.data.toList.drop 0 = dktX8_ticksGo_0 := by decide +kernel
theorem dX8_ticksGo_0 : decode cX8_ticksGo 0 = .ok (.aload_n 0, 1) := dk_42 (dk_at dksX8_ticksGo_0 0 rfl rfl)
theorem dX8_ticksGo_1 : decode cX8_ticksGo 1 = .ok (.iconst 0, 1) := dk_3 (dk_at dksX8_ticksGo_0 1 rfl rfl)
theorem dX8_ticksGo_2 : decode cX8_ticksGo 2 = .ok (.putfield 320, 3) := dk_181 1 64 (dk_at dksX8_ticksGo_0 2 rfl rfl)
theorem dX8_ticksGo_5 : decode cX8_ticksGo 5 = .ok (.iconst 0, 1) := dk_3 (dk_at dksX8_ticksGo_0 5 rfl rfl)
theorem dX8_ticksGo_6 : decode cX8_ticksGo 6 = .ok (.istore_n 2, 1) := dk_61 (dk_at dksX8_ticksGo_0 6 rfl rfl)
theorem dX8_ticksGo_7 : decode cX8_ticksGo 7 = .ok (.iload_n 2, 1) := dk_28 (dk_at dksX8_ticksGo_0 7 rfl rfl)
theorem dX8_ticksGo_8 : decode cX8_ticksGo 8 = .ok (.iload_n 1, 1) := dk_27 (dk_at dksX8_ticksGo_0 8 rfl rfl)
theorem dX8_ticksGo_9 : decode cX8_ticksGo 9 = .ok (.if_icmp .ge 14, 3) := dk_162 0 14 (dk_at dksX8_ticksGo_0 9 rfl rfl)
theorem dX8_ticksGo_12 : decode cX8_ticksGo 12 = .ok (.aload_n 0, 1) := dk_42 (dk_at dksX8_ticksGo_0 12 rfl rfl)
theorem dX8_ticksGo_13 : decode cX8_ticksGo 13 = .ok (.invokevirtual 408, 3) := dk_182 1 152 (dk_at dksX8_ticksGo_0 13 rfl rfl)
theorem dX8_ticksGo_16 : decode cX8_ticksGo 16 = .ok (.pop, 1) := dk_87 (dk_at dksX8_ticksGo_0 16 rfl rfl)
theorem dX8_ticksGo_17 : decode cX8_ticksGo 17 = .ok (.iinc 2 1, 3) := dk_132 2 1 (dk_at dksX8_ticksGo_0 17 rfl rfl)
theorem dX8_ticksGo_20 : decode cX8_ticksGo 20 = .ok (.goto (-13), 3) := dk_167 255 243 (dk_at dksX8_ticksGo_0 20 rfl rfl)
theorem dX8_ticksGo_23 : decode cX8_ticksGo 23 = .ok (.return_, 1) := dk_177 (dk_at dksX8_ticksGo_0 23 rfl rfl)
abbrev cX8_oneTick : ByteArray := prog_18_method_95_code
def yX8_oneTick : MethodName := ⟨RX8, "oneTick", "()Z"⟩
def dkwX8_oneTick_0 : List UInt8 := [42, 180, 0, 7, 17, 43, 123, 46, 17, 39, 15, 161, 0, 5, 3, 172, 42, 182, 1, 149, 4, 172]
abbrev dktX8_oneTick_0 : List UInt8 := dkwX8_oneTick_0 ++ []
theorem dksX8_oneTick_0 : cX8_oneTick.data.toList.drop 0 = dktX8_oneTick_0 := by decide +kernel
theorem dX8_oneTick_0 : decode cX8_oneTick 0 = .ok (.aload_n 0, 1) := dk_42 (dk_at dksX8_oneTick_0 0 rfl rfl)
theorem dX8_oneTick_1 : decode cX8_oneTick 1 = .ok (.getfield 7, 3) := dk_180 0 7 (dk_at dksX8_oneTick_0 1 rfl rfl)
theorem dX8_oneTick_4 : decode cX8_oneTick 4 = .ok (.sipush 11131, 3) := dk_17 43 123 (dk_at dksX8_oneTick_0 4 rfl rfl)
theorem dX8_oneTick_7 : decode cX8_oneTick 7 = .ok (.iaload, 1) := dk_46 (dk_at dksX8_oneTick_0 7 rfl rfl)
theorem dX8_oneTick_8 : decode cX8_oneTick 8 = .ok (.sipush 9999, 3) := dk_17 39 15 (dk_at dksX8_oneTick_0 8 rfl rfl)
theorem dX8_oneTick_11 : decode cX8_oneTick 11 = .ok (.if_icmp .lt 5, 3) := dk_161 0 5 (dk_at dksX8_oneTick_0 11 rfl rfl)
theorem dX8_oneTick_14 : decode cX8_oneTick 14 = .ok (.iconst 0, 1) := dk_3 (dk_at dksX8_oneTick_0 14 rfl rfl)
theorem dX8_oneTick_15 : decode cX8_oneTick 15 = .ok (.ireturn, 1) := dk_172 (dk_at dksX8_oneTick_0 15 rfl rfl)
theorem dX8_oneTick_16 : decode cX8_oneTick 16 = .ok (.aload_n 0, 1) := dk_42 (dk_at dksX8_oneTick_0 16 rfl rfl)
theorem dX8_oneTick_17 : decode cX8_oneTick 17 = .ok (.invokevirtual 405, 3) := dk_182 1 149 (dk_at dksX8_oneTick_0 17 rfl rfl)
theorem dX8_oneTick_20 : decode cX8_oneTick 20 = .ok (.iconst 1, 1) := dk_4 (dk_at dksX8_oneTick_0 20 rfl rfl)
theorem dX8_oneTick_21 : decode cX8_oneTick 21 = .ok (.ireturn, 1) := dk_172 (dk_at dksX8_oneTick_0 21 rfl rfl)
abbrev cX8_tickGoes : ByteArray := prog_18_method_92_code
def yX8_tickGoes : MethodName := ⟨RX8, "tickGoes", "()V"⟩
def dkwX8_tickGoes_2 : List UInt8 := [153, 0, 8, 42, 27, 182, 1, 140, 132, 1, 1, 167, 255, 234, 177]
abbrev dktX8_tickGoes_2 : List UInt8 := dkwX8_tickGoes_2 ++ []
def dkwX8_tickGoes_1 : List UInt8 := [153, 0, 10, 42, 182, 1, 137, 167, 255, 245, 3, 60, 27, 16, 7, 162, 0, 22, 42, 27, 182, 0, 105]
abbrev dktX8_tickGoes_1 : List UInt8 := dkwX8_tickGoes_1 ++ dktX8_tickGoes_2
def dkwX8_tickGoes_0 : List UInt8 := [42, 180, 0, 7, 17, 43, 123, 42, 180, 0, 7, 17, 43, 123, 46, 4, 96, 79, 42, 182, 1, 134]
abbrev dktX8_tickGoes_0 : List UInt8 := dkwX8_tickGoes_0 ++ dktX8_tickGoes_1
theorem dksX8_tickGoes_0 : cX8_tickGoes.data.toList.drop 0 = dktX8_tickGoes_0 := by decide +kernel
theorem dksX8_tickGoes_1 : cX8_tickGoes.data.toList.drop 22 = dktX8_tickGoes_1 := dk_seg dksX8_tickGoes_0 22 rfl rfl
theorem dksX8_tickGoes_2 : cX8_tickGoes.data.toList.drop 45 = dktX8_tickGoes_2 := dk_seg dksX8_tickGoes_1 23 rfl rfl
theorem dX8_tickGoes_0 : decode cX8_tickGoes 0 = .ok (.aload_n 0, 1) := dk_42 (dk_at dksX8_tickGoes_0 0 rfl rfl)
theorem dX8_tickGoes_1 : decode cX8_tickGoes 1 = .ok (.getfield 7, 3) := dk_180 0 7 (dk_at dksX8_tickGoes_0 1 rfl rfl)
theorem dX8_tickGoes_4 : decode cX8_tickGoes 4 = .ok (.sipush 11131, 3) := dk_17 43 123 (dk_at dksX8_tickGoes_0 4 rfl rfl)
theorem dX8_tickGoes_7 : decode cX8_tickGoes 7 = .ok (.aload_n 0, 1) := dk_42 (dk_at dksX8_tickGoes_0 7 rfl rfl)
theorem dX8_tickGoes_8 : decode cX8_tickGoes 8 = .ok (.getfield 7, 3) := dk_180 0 7 (dk_at dksX8_tickGoes_0 8 rfl rfl)
theorem dX8_tickGoes_11 : decode cX8_tickGoes 11 = .ok (.sipush 11131, 3) := dk_17 43 123 (dk_at dksX8_tickGoes_0 11 rfl rfl)
theorem dX8_tickGoes_14 : decode cX8_tickGoes 14 = .ok (.iaload, 1) := dk_46 (dk_at dksX8_tickGoes_0 14 rfl rfl)
theorem dX8_tickGoes_15 : decode cX8_tickGoes 15 = .ok (.iconst 1, 1) := dk_4 (dk_at dksX8_tickGoes_0 15 rfl rfl)
theorem dX8_tickGoes_16 : decode cX8_tickGoes 16 = .ok (.iadd, 1) := dk_96 (dk_at dksX8_tickGoes_0 16 rfl rfl)
theorem dX8_tickGoes_17 : decode cX8_tickGoes 17 = .ok (.iastore, 1) := dk_79 (dk_at dksX8_tickGoes_0 17 rfl rfl)
theorem dX8_tickGoes_18 : decode cX8_tickGoes 18 = .ok (.aload_n 0, 1) := dk_42 (dk_at dksX8_tickGoes_0 18 rfl rfl)
theorem dX8_tickGoes_19 : decode cX8_tickGoes 19 = .ok (.invokevirtual 390, 3) := dk_182 1 134 (dk_at dksX8_tickGoes_0 19 rfl rfl)
theorem dX8_tickGoes_22 : decode cX8_tickGoes 22 = .ok (.ifCond .eq 10, 3) := dk_153 0 10 (dk_at dksX8_tickGoes_1 0 rfl rfl)
theorem dX8_tickGoes_25 : decode cX8_tickGoes 25 = .ok (.aload_n 0, 1) := dk_42 (dk_at dksX8_tickGoes_1 3 rfl rfl)
theorem dX8_tickGoes_26 : decode cX8_tickGoes 26 = .ok (.invokevirtual 393, 3) := dk_182 1 137 (dk_at dksX8_tickGoes_1 4 rfl rfl)
theorem dX8_tickGoes_29 : decode cX8_tickGoes 29 = .ok (.goto (-11), 3) := dk_167 255 245 (dk_at dksX8_tickGoes_1 7 rfl rfl)
theorem dX8_tickGoes_32 : decode cX8_tickGoes 32 = .ok (.iconst 0, 1) := dk_3 (dk_at dksX8_tickGoes_1 10 rfl rfl)
theorem dX8_tickGoes_33 : decode cX8_tickGoes 33 = .ok (.istore_n 1, 1) := dk_60 (dk_at dksX8_tickGoes_1 11 rfl rfl)
theorem dX8_tickGoes_34 : decode cX8_tickGoes 34 = .ok (.iload_n 1, 1) := dk_27 (dk_at dksX8_tickGoes_1 12 rfl rfl)
theorem dX8_tickGoes_35 : decode cX8_tickGoes 35 = .ok (.bipush 7, 2) := dk_16 7 (dk_at dksX8_tickGoes_1 13 rfl rfl)
theorem dX8_tickGoes_37 : decode cX8_tickGoes 37 = .ok (.if_icmp .ge 22, 3) := dk_162 0 22 (dk_at dksX8_tickGoes_1 15 rfl rfl)
theorem dX8_tickGoes_40 : decode cX8_tickGoes 40 = .ok (.aload_n 0, 1) := dk_42 (dk_at dksX8_tickGoes_1 18 rfl rfl)
theorem dX8_tickGoes_41 : decode cX8_tickGoes 41 = .ok (.iload_n 1, 1) := dk_27 (dk_at dksX8_tickGoes_1 19 rfl rfl)
theorem dX8_tickGoes_42 : decode cX8_tickGoes 42 = .ok (.invokevirtual 105, 3) := dk_182 0 105 (dk_at dksX8_tickGoes_1 20 rfl rfl)
theorem dX8_tickGoes_45 : decode cX8_tickGoes 45 = .ok (.ifCond .eq 8, 3) := dk_153 0 8 (dk_at dksX8_tickGoes_2 0 rfl rfl)
theorem dX8_tickGoes_48 : decode cX8_tickGoes 48 = .ok (.aload_n 0, 1) := dk_42 (dk_at dksX8_tickGoes_2 3 rfl rfl)
theorem dX8_tickGoes_49 : decode cX8_tickGoes 49 = .ok (.iload_n 1, 1) := dk_27 (dk_at dksX8_tickGoes_2 4 rfl rfl)
theorem dX8_tickGoes_50 : decode cX8_tickGoes 50 = .ok (.invokevirtual 396, 3) := dk_182 1 140 (dk_at dksX8_tickGoes_2 5 rfl rfl)
theorem dX8_tickGoes_53 : decode cX8_tickGoes 53 = .ok (.iinc 1 1, 3) := dk_132 1 1 (dk_at dksX8_tickGoes_2 8 rfl rfl)
theorem dX8_tickGoes_56 : decode cX8_tickGoes 56 = .ok (.goto (-22), 3) := dk_167 255 234 (dk_at dksX8_tickGoes_2 11 rfl rfl)
theorem dX8_tickGoes_59 : decode cX8_tickGoes 59 = .ok (.return_, 1) := dk_177 (dk_at dksX8_tickGoes_2 14 rfl rfl)
abbrev cX8_takesDue : ByteArray := prog_18_method_79_code
def yX8_takesDue : MethodName := ⟨RX8, "takesDue", "()Z"⟩
def dkwX8_takesDue_6 : List UInt8 := [79, 4, 172, 132, 1, 1, 167, 255, 111, 3, 172]
abbrev dktX8_takesDue_6 : List UInt8 := dkwX8_takesDue_6 ++ []
def dkwX8_takesDue_5 : List UInt8 := [79, 132, 4, 1, 167, 255, 230, 42, 180, 0, 7, 17, 43, 125, 42, 180, 0, 7, 17, 43, 125, 46, 4, 100]
abbrev dktX8_takesDue_5 : List UInt8 := dkwX8_takesDue_5 ++ dktX8_takesDue_6
def dkwX8_takesDue_4 : List UInt8 := [54, 4, 21, 4, 29, 162, 0, 26, 42, 180, 0, 7, 21, 4, 16, 27, 100, 42, 180, 0, 7, 21, 4, 46]
abbrev dktX8_takesDue_4 : List UInt8 := dkwX8_takesDue_4 ++ dktX8_takesDue_5
def dkwX8_takesDue_3 : List UInt8 := [167, 255, 233, 17, 6, 172, 16, 27, 42, 180, 0, 7, 17, 43, 125, 46, 104, 96, 62, 28, 16, 27, 96]
abbrev dktX8_takesDue_3 : List UInt8 := dkwX8_takesDue_3 ++ dktX8_takesDue_4
def dkwX8_takesDue_2 : List UInt8 := [16, 27, 162, 0, 23, 42, 180, 0, 22, 29, 42, 180, 0, 7, 28, 29, 96, 46, 79, 132, 3, 1]
abbrev dktX8_takesDue_2 : List UInt8 := dkwX8_takesDue_2 ++ dktX8_takesDue_3
def dkwX8_takesDue_1 : List UInt8 := [180, 0, 7, 28, 7, 96, 46, 42, 180, 0, 7, 17, 43, 123, 46, 164, 0, 6, 167, 0, 102, 3, 62, 29]
abbrev dktX8_takesDue_1 : List UInt8 := dkwX8_takesDue_1 ++ dktX8_takesDue_2
def dkwX8_takesDue_0 : List UInt8 := [3, 60, 27, 42, 180, 0, 7, 17, 43, 125, 46, 162, 0, 139, 17, 6, 172, 16, 27, 27, 104, 96, 61, 42]
abbrev dktX8_takesDue_0 : List UInt8 := dkwX8_takesDue_0 ++ dktX8_takesDue_1
theorem dksX8_takesDue_0 : cX8_takesDue.data.toList.drop 0 = dktX8_takesDue_0 := by decide +kernel
theorem dksX8_takesDue_1 : cX8_takesDue.data.toList.drop 24 = dktX8_takesDue_1 := dk_seg dksX8_takesDue_0 24 rfl rfl
theorem dksX8_takesDue_2 : cX8_takesDue.data.toList.drop 48 = dktX8_takesDue_2 := dk_seg dksX8_takesDue_1 24 rfl rfl
theorem dksX8_takesDue_3 : cX8_takesDue.data.toList.drop 70 = dktX8_takesDue_3 := dk_seg dksX8_takesDue_2 22 rfl rfl
theorem dksX8_takesDue_4 : cX8_takesDue.data.toList.drop 93 = dktX8_takesDue_4 := dk_seg dksX8_takesDue_3 23 rfl rfl
theorem dksX8_takesDue_5 : cX8_takesDue.data.toList.drop 117 = dktX8_takesDue_5 := dk_seg dksX8_takesDue_4 24 rfl rfl
theorem dksX8_takesDue_6 : cX8_takesDue.data.toList.drop 141 = dktX8_takesDue_6 := dk_seg dksX8_takesDue_5 24 rfl rfl
theorem dX8_takesDue_0 : decode cX8_takesDue 0 = .ok (.iconst 0, 1) := dk_3 (dk_at dksX8_takesDue_0 0 rfl rfl)
theorem dX8_takesDue_1 : decode cX8_takesDue 1 = .ok (.istore_n 1, 1) := dk_60 (dk_at dksX8_takesDue_0 1 rfl rfl)
theorem dX8_takesDue_2 : decode cX8_takesDue 2 = .ok (.iload_n 1, 1) := dk_27 (dk_at dksX8_takesDue_0 2 rfl rfl)
theorem dX8_takesDue_3 : decode cX8_takesDue 3 = .ok (.aload_n 0, 1) := dk_42 (dk_at dksX8_takesDue_0 3 rfl rfl)
theorem dX8_takesDue_4 : decode cX8_takesDue 4 = .ok (.getfield 7, 3) := dk_180 0 7 (dk_at dksX8_takesDue_0 4 rfl rfl)
theorem dX8_takesDue_7 : decode cX8_takesDue 7 = .ok (.sipush 11133, 3) := dk_17 43 125 (dk_at dksX8_takesDue_0 7 rfl rfl)
theorem dX8_takesDue_10 : decode cX8_takesDue 10 = .ok (.iaload, 1) := dk_46 (dk_at dksX8_takesDue_0 10 rfl rfl)
theorem dX8_takesDue_11 : decode cX8_takesDue 11 = .ok (.if_icmp .ge 139, 3) := dk_162 0 139 (dk_at dksX8_takesDue_0 11 rfl rfl)
theorem dX8_takesDue_14 : decode cX8_takesDue 14 = .ok (.sipush 1708, 3) := dk_17 6 172 (dk_at dksX8_takesDue_0 14 rfl rfl)
theorem dX8_takesDue_17 : decode cX8_takesDue 17 = .ok (.bipush 27, 2) := dk_16 27 (dk_at dksX8_takesDue_0 17 rfl rfl)
theorem dX8_takesDue_19 : decode cX8_takesDue 19 = .ok (.iload_n 1, 1) := dk_27 (dk_at dksX8_takesDue_0 19 rfl rfl)
theorem dX8_takesDue_20 : decode cX8_takesDue 20 = .ok (.imul, 1) := dk_104 (dk_at dksX8_takesDue_0 20 rfl rfl)
theorem dX8_takesDue_21 : decode cX8_takesDue 21 = .ok (.iadd, 1) := dk_96 (dk_at dksX8_takesDue_0 21 rfl rfl)
theorem dX8_takesDue_22 : decode cX8_takesDue 22 = .ok (.istore_n 2, 1) := dk_61 (dk_at dksX8_takesDue_0 22 rfl rfl)
theorem dX8_takesDue_23 : decode cX8_takesDue 23 = .ok (.aload_n 0, 1) := dk_42 (dk_at dksX8_takesDue_0 23 rfl rfl)
theorem dX8_takesDue_24 : decode cX8_takesDue 24 = .ok (.getfield 7, 3) := dk_180 0 7 (dk_at dksX8_takesDue_1 0 rfl rfl)
theorem dX8_takesDue_27 : decode cX8_takesDue 27 = .ok (.iload_n 2, 1) := dk_28 (dk_at dksX8_takesDue_1 3 rfl rfl)
theorem dX8_takesDue_28 : decode cX8_takesDue 28 = .ok (.iconst 4, 1) := dk_7 (dk_at dksX8_takesDue_1 4 rfl rfl)
theorem dX8_takesDue_29 : decode cX8_takesDue 29 = .ok (.iadd, 1) := dk_96 (dk_at dksX8_takesDue_1 5 rfl rfl)
theorem dX8_takesDue_30 : decode cX8_takesDue 30 = .ok (.iaload, 1) := dk_46 (dk_at dksX8_takesDue_1 6 rfl rfl)
theorem dX8_takesDue_31 : decode cX8_takesDue 31 = .ok (.aload_n 0, 1) := dk_42 (dk_at dksX8_takesDue_1 7 rfl rfl)
theorem dX8_takesDue_32 : decode cX8_takesDue 32 = .ok (.getfield 7, 3) := dk_180 0 7 (dk_at dksX8_takesDue_1 8 rfl rfl)
theorem dX8_takesDue_35 : decode cX8_takesDue 35 = .ok (.sipush 11131, 3) := dk_17 43 123 (dk_at dksX8_takesDue_1 11 rfl rfl)
theorem dX8_takesDue_38 : decode cX8_takesDue 38 = .ok (.iaload, 1) := dk_46 (dk_at dksX8_takesDue_1 14 rfl rfl)
theorem dX8_takesDue_39 : decode cX8_takesDue 39 = .ok (.if_icmp .le 6, 3) := dk_164 0 6 (dk_at dksX8_takesDue_1 15 rfl rfl)
theorem dX8_takesDue_42 : decode cX8_takesDue 42 = .ok (.goto 102, 3) := dk_167 0 102 (dk_at dksX8_takesDue_1 18 rfl rfl)
theorem dX8_takesDue_45 : decode cX8_takesDue 45 = .ok (.iconst 0, 1) := dk_3 (dk_at dksX8_takesDue_1 21 rfl rfl)
theorem dX8_takesDue_46 : decode cX8_takesDue 46 = .ok (.istore_n 3, 1) := dk_62 (dk_at dksX8_takesDue_1 22 rfl rfl)
theorem dX8_takesDue_47 : decode cX8_takesDue 47 = .ok (.iload_n 3, 1) := dk_29 (dk_at dksX8_takesDue_1 23 rfl rfl)
theorem dX8_takesDue_48 : decode cX8_takesDue 48 = .ok (.bipush 27, 2) := dk_16 27 (dk_at dksX8_takesDue_2 0 rfl rfl)
theorem dX8_takesDue_50 : decode cX8_takesDue 50 = .ok (.if_icmp .ge 23, 3) := dk_162 0 23 (dk_at dksX8_takesDue_2 2 rfl rfl)
theorem dX8_takesDue_53 : decode cX8_takesDue 53 = .ok (.aload_n 0, 1) := dk_42 (dk_at dksX8_takesDue_2 5 rfl rfl)
theorem dX8_takesDue_54 : decode cX8_takesDue 54 = .ok (.getfield 22, 3) := dk_180 0 22 (dk_at dksX8_takesDue_2 6 rfl rfl)
theorem dX8_takesDue_57 : decode cX8_takesDue 57 = .ok (.iload_n 3, 1) := dk_29 (dk_at dksX8_takesDue_2 9 rfl rfl)
theorem dX8_takesDue_58 : decode cX8_takesDue 58 = .ok (.aload_n 0, 1) := dk_42 (dk_at dksX8_takesDue_2 10 rfl rfl)
theorem dX8_takesDue_59 : decode cX8_takesDue 59 = .ok (.getfield 7, 3) := dk_180 0 7 (dk_at dksX8_takesDue_2 11 rfl rfl)
theorem dX8_takesDue_62 : decode cX8_takesDue 62 = .ok (.iload_n 2, 1) := dk_28 (dk_at dksX8_takesDue_2 14 rfl rfl)
theorem dX8_takesDue_63 : decode cX8_takesDue 63 = .ok (.iload_n 3, 1) := dk_29 (dk_at dksX8_takesDue_2 15 rfl rfl)
theorem dX8_takesDue_64 : decode cX8_takesDue 64 = .ok (.iadd, 1) := dk_96 (dk_at dksX8_takesDue_2 16 rfl rfl)
theorem dX8_takesDue_65 : decode cX8_takesDue 65 = .ok (.iaload, 1) := dk_46 (dk_at dksX8_takesDue_2 17 rfl rfl)
theorem dX8_takesDue_66 : decode cX8_takesDue 66 = .ok (.iastore, 1) := dk_79 (dk_at dksX8_takesDue_2 18 rfl rfl)
theorem dX8_takesDue_67 : decode cX8_takesDue 67 = .ok (.iinc 3 1, 3) := dk_132 3 1 (dk_at dksX8_takesDue_2 19 rfl rfl)
theorem dX8_takesDue_70 : decode cX8_takesDue 70 = .ok (.goto (-23), 3) := dk_167 255 233 (dk_at dksX8_takesDue_3 0 rfl rfl)
theorem dX8_takesDue_73 : decode cX8_takesDue 73 = .ok (.sipush 1708, 3) := dk_17 6 172 (dk_at dksX8_takesDue_3 3 rfl rfl)
theorem dX8_takesDue_76 : decode cX8_takesDue 76 = .ok (.bipush 27, 2) := dk_16 27 (dk_at dksX8_takesDue_3 6 rfl rfl)
theorem dX8_takesDue_78 : decode cX8_takesDue 78 = .ok (.aload_n 0, 1) := dk_42 (dk_at dksX8_takesDue_3 8 rfl rfl)
theorem dX8_takesDue_79 : decode cX8_takesDue 79 = .ok (.getfield 7, 3) := dk_180 0 7 (dk_at dksX8_takesDue_3 9 rfl rfl)
theorem dX8_takesDue_82 : decode cX8_takesDue 82 = .ok (.sipush 11133, 3) := dk_17 43 125 (dk_at dksX8_takesDue_3 12 rfl rfl)
theorem dX8_takesDue_85 : decode cX8_takesDue 85 = .ok (.iaload, 1) := dk_46 (dk_at dksX8_takesDue_3 15 rfl rfl)
theorem dX8_takesDue_86 : decode cX8_takesDue 86 = .ok (.imul, 1) := dk_104 (dk_at dksX8_takesDue_3 16 rfl rfl)
theorem dX8_takesDue_87 : decode cX8_takesDue 87 = .ok (.iadd, 1) := dk_96 (dk_at dksX8_takesDue_3 17 rfl rfl)
theorem dX8_takesDue_88 : decode cX8_takesDue 88 = .ok (.istore_n 3, 1) := dk_62 (dk_at dksX8_takesDue_3 18 rfl rfl)
theorem dX8_takesDue_89 : decode cX8_takesDue 89 = .ok (.iload_n 2, 1) := dk_28 (dk_at dksX8_takesDue_3 19 rfl rfl)
theorem dX8_takesDue_90 : decode cX8_takesDue 90 = .ok (.bipush 27, 2) := dk_16 27 (dk_at dksX8_takesDue_3 20 rfl rfl)
theorem dX8_takesDue_92 : decode cX8_takesDue 92 = .ok (.iadd, 1) := dk_96 (dk_at dksX8_takesDue_3 22 rfl rfl)
theorem dX8_takesDue_93 : decode cX8_takesDue 93 = .ok (.istore 4, 2) := dk_54 4 (dk_at dksX8_takesDue_4 0 rfl rfl)
theorem dX8_takesDue_95 : decode cX8_takesDue 95 = .ok (.iload 4, 2) := dk_21 4 (dk_at dksX8_takesDue_4 2 rfl rfl)
theorem dX8_takesDue_97 : decode cX8_takesDue 97 = .ok (.iload_n 3, 1) := dk_29 (dk_at dksX8_takesDue_4 4 rfl rfl)
theorem dX8_takesDue_98 : decode cX8_takesDue 98 = .ok (.if_icmp .ge 26, 3) := dk_162 0 26 (dk_at dksX8_takesDue_4 5 rfl rfl)
theorem dX8_takesDue_101 : decode cX8_takesDue 101 = .ok (.aload_n 0, 1) := dk_42 (dk_at dksX8_takesDue_4 8 rfl rfl)
theorem dX8_takesDue_102 : decode cX8_takesDue 102 = .ok (.getfield 7, 3) := dk_180 0 7 (dk_at dksX8_takesDue_4 9 rfl rfl)
theorem dX8_takesDue_105 : decode cX8_takesDue 105 = .ok (.iload 4, 2) := dk_21 4 (dk_at dksX8_takesDue_4 12 rfl rfl)
theorem dX8_takesDue_107 : decode cX8_takesDue 107 = .ok (.bipush 27, 2) := dk_16 27 (dk_at dksX8_takesDue_4 14 rfl rfl)
theorem dX8_takesDue_109 : decode cX8_takesDue 109 = .ok (.isub, 1) := dk_100 (dk_at dksX8_takesDue_4 16 rfl rfl)
theorem dX8_takesDue_110 : decode cX8_takesDue 110 = .ok (.aload_n 0, 1) := dk_42 (dk_at dksX8_takesDue_4 17 rfl rfl)
theorem dX8_takesDue_111 : decode cX8_takesDue 111 = .ok (.getfield 7, 3) := dk_180 0 7 (dk_at dksX8_takesDue_4 18 rfl rfl)
theorem dX8_takesDue_114 : decode cX8_takesDue 114 = .ok (.iload 4, 2) := dk_21 4 (dk_at dksX8_takesDue_4 21 rfl rfl)
theorem dX8_takesDue_116 : decode cX8_takesDue 116 = .ok (.iaload, 1) := dk_46 (dk_at dksX8_takesDue_4 23 rfl rfl)
theorem dX8_takesDue_117 : decode cX8_takesDue 117 = .ok (.iastore, 1) := dk_79 (dk_at dksX8_takesDue_5 0 rfl rfl)
theorem dX8_takesDue_118 : decode cX8_takesDue 118 = .ok (.iinc 4 1, 3) := dk_132 4 1 (dk_at dksX8_takesDue_5 1 rfl rfl)
theorem dX8_takesDue_121 : decode cX8_takesDue 121 = .ok (.goto (-26), 3) := dk_167 255 230 (dk_at dksX8_takesDue_5 4 rfl rfl)
theorem dX8_takesDue_124 : decode cX8_takesDue 124 = .ok (.aload_n 0, 1) := dk_42 (dk_at dksX8_takesDue_5 7 rfl rfl)
theorem dX8_takesDue_125 : decode cX8_takesDue 125 = .ok (.getfield 7, 3) := dk_180 0 7 (dk_at dksX8_takesDue_5 8 rfl rfl)
theorem dX8_takesDue_128 : decode cX8_takesDue 128 = .ok (.sipush 11133, 3) := dk_17 43 125 (dk_at dksX8_takesDue_5 11 rfl rfl)
theorem dX8_takesDue_131 : decode cX8_takesDue 131 = .ok (.aload_n 0, 1) := dk_42 (dk_at dksX8_takesDue_5 14 rfl rfl)
theorem dX8_takesDue_132 : decode cX8_takesDue 132 = .ok (.getfield 7, 3) := dk_180 0 7 (dk_at dksX8_takesDue_5 15 rfl rfl)
theorem dX8_takesDue_135 : decode cX8_takesDue 135 = .ok (.sipush 11133, 3) := dk_17 43 125 (dk_at dksX8_takesDue_5 18 rfl rfl)
theorem dX8_takesDue_138 : decode cX8_takesDue 138 = .ok (.iaload, 1) := dk_46 (dk_at dksX8_takesDue_5 21 rfl rfl)
theorem dX8_takesDue_139 : decode cX8_takesDue 139 = .ok (.iconst 1, 1) := dk_4 (dk_at dksX8_takesDue_5 22 rfl rfl)
theorem dX8_takesDue_140 : decode cX8_takesDue 140 = .ok (.isub, 1) := dk_100 (dk_at dksX8_takesDue_5 23 rfl rfl)
theorem dX8_takesDue_141 : decode cX8_takesDue 141 = .ok (.iastore, 1) := dk_79 (dk_at dksX8_takesDue_6 0 rfl rfl)
theorem dX8_takesDue_142 : decode cX8_takesDue 142 = .ok (.iconst 1, 1) := dk_4 (dk_at dksX8_takesDue_6 1 rfl rfl)
theorem dX8_takesDue_143 : decode cX8_takesDue 143 = .ok (.ireturn, 1) := dk_172 (dk_at dksX8_takesDue_6 2 rfl rfl)
theorem dX8_takesDue_144 : decode cX8_takesDue 144 = .ok (.iinc 1 1, 3) := dk_132 1 1 (dk_at dksX8_takesDue_6 3 rfl rfl)
theorem dX8_takesDue_147 : decode cX8_takesDue 147 = .ok (.goto (-145), 3) := dk_167 255 111 (dk_at dksX8_takesDue_6 6 rfl rfl)
theorem dX8_takesDue_150 : decode cX8_takesDue 150 = .ok (.iconst 0, 1) := dk_3 (dk_at dksX8_takesDue_6 9 rfl rfl)
theorem dX8_takesDue_151 : decode cX8_takesDue 151 = .ok (.ireturn, 1) := dk_172 (dk_at dksX8_takesDue_6 10 rfl rfl)
abbrev cX8_isHanded : ByteArray := prog_18_method_80_code
def yX8_isHanded : MethodName := ⟨RX8, "isHanded", "()V"⟩
def dkwX8_isHanded_6 : List UInt8 := [42, 27, 182, 1, 103, 167, 0, 16, 42, 27, 182, 1, 106, 167, 0, 8, 42, 27, 182, 1, 109, 177]
abbrev dktX8_isHanded_6 : List UInt8 := dkwX8_isHanded_6 ++ []
def dkwX8_isHanded_5 : List UInt8 := [42, 27, 182, 1, 94, 167, 0, 40, 42, 27, 182, 1, 97, 167, 0, 32, 42, 27, 182, 1, 100, 167, 0, 24]
abbrev dktX8_isHanded_5 : List UInt8 := dkwX8_isHanded_5 ++ dktX8_isHanded_6
def dkwX8_isHanded_4 : List UInt8 := [170, 0, 0, 0, 0, 0, 0, 76, 0, 0, 0, 0, 0, 0, 0, 4, 0, 0, 0, 36, 0, 0, 0, 44, 0, 0, 0, 52, 0, 0, 0, 60, 0, 0, 0, 68]
abbrev dktX8_isHanded_4 : List UInt8 := dkwX8_isHanded_4 ++ dktX8_isHanded_5
def dkwX8_isHanded_3 : List UInt8 := [2, 182, 1, 85, 42, 180, 0, 22, 5, 46]
abbrev dktX8_isHanded_3 : List UInt8 := dkwX8_isHanded_3 ++ dktX8_isHanded_4
def dkwX8_isHanded_2 : List UInt8 := [164, 0, 28, 42, 27, 4, 42, 180, 0, 22, 6, 46, 182, 0, 133, 42, 27, 5, 2, 182, 0, 133, 42, 27]
abbrev dktX8_isHanded_2 : List UInt8 := dkwX8_isHanded_2 ++ dktX8_isHanded_3
def dkwX8_isHanded_1 : List UInt8 := [182, 1, 91, 154, 0, 8, 42, 182, 1, 12, 177, 42, 180, 0, 22, 6, 46, 42, 27, 4, 182, 0, 101]
abbrev dktX8_isHanded_1 : List UInt8 := dkwX8_isHanded_1 ++ dktX8_isHanded_2
def dkwX8_isHanded_0 : List UInt8 := [42, 180, 0, 22, 4, 46, 60, 42, 27, 182, 0, 105, 153, 0, 17, 42, 27, 42, 180, 0, 22, 3, 46]
abbrev dktX8_isHanded_0 : List UInt8 := dkwX8_isHanded_0 ++ dktX8_isHanded_1
theorem dksX8_isHanded_0 : cX8_isHanded.data.toList.drop 0 = dktX8_isHanded_0 := by decide +kernel
theorem dksX8_isHanded_1 : cX8_isHanded.data.toList.drop 23 = dktX8_isHanded_1 := dk_seg dksX8_isHanded_0 23 rfl rfl
theorem dksX8_isHanded_2 : cX8_isHanded.data.toList.drop 46 = dktX8_isHanded_2 := dk_seg dksX8_isHanded_1 23 rfl rfl
theorem dksX8_isHanded_3 : cX8_isHanded.data.toList.drop 70 = dktX8_isHanded_3 := dk_seg dksX8_isHanded_2 24 rfl rfl
theorem dksX8_isHanded_4 : cX8_isHanded.data.toList.drop 80 = dktX8_isHanded_4 := dk_seg dksX8_isHanded_3 10 rfl rfl
theorem dksX8_isHanded_5 : cX8_isHanded.data.toList.drop 116 = dktX8_isHanded_5 := dk_seg dksX8_isHanded_4 36 rfl rfl
theorem dksX8_isHanded_6 : cX8_isHanded.data.toList.drop 140 = dktX8_isHanded_6 := dk_seg dksX8_isHanded_5 24 rfl rfl
theorem dX8_isHanded_0 : decode cX8_isHanded 0 = .ok (.aload_n 0, 1) := dk_42 (dk_at dksX8_isHanded_0 0 rfl rfl)
theorem dX8_isHanded_1 : decode cX8_isHanded 1 = .ok (.getfield 22, 3) := dk_180 0 22 (dk_at dksX8_isHanded_0 1 rfl rfl)
theorem dX8_isHanded_4 : decode cX8_isHanded 4 = .ok (.iconst 1, 1) := dk_4 (dk_at dksX8_isHanded_0 4 rfl rfl)
theorem dX8_isHanded_5 : decode cX8_isHanded 5 = .ok (.iaload, 1) := dk_46 (dk_at dksX8_isHanded_0 5 rfl rfl)
theorem dX8_isHanded_6 : decode cX8_isHanded 6 = .ok (.istore_n 1, 1) := dk_60 (dk_at dksX8_isHanded_0 6 rfl rfl)
theorem dX8_isHanded_7 : decode cX8_isHanded 7 = .ok (.aload_n 0, 1) := dk_42 (dk_at dksX8_isHanded_0 7 rfl rfl)
theorem dX8_isHanded_8 : decode cX8_isHanded 8 = .ok (.iload_n 1, 1) := dk_27 (dk_at dksX8_isHanded_0 8 rfl rfl)
theorem dX8_isHanded_9 : decode cX8_isHanded 9 = .ok (.invokevirtual 105, 3) := dk_182 0 105 (dk_at dksX8_isHanded_0 9 rfl rfl)
theorem dX8_isHanded_12 : decode cX8_isHanded 12 = .ok (.ifCond .eq 17, 3) := dk_153 0 17 (dk_at dksX8_isHanded_0 12 rfl rfl)
theorem dX8_isHanded_15 : decode cX8_isHanded 15 = .ok (.aload_n 0, 1) := dk_42 (dk_at dksX8_isHanded_0 15 rfl rfl)
theorem dX8_isHanded_16 : decode cX8_isHanded 16 = .ok (.iload_n 1, 1) := dk_27 (dk_at dksX8_isHanded_0 16 rfl rfl)
theorem dX8_isHanded_17 : decode cX8_isHanded 17 = .ok (.aload_n 0, 1) := dk_42 (dk_at dksX8_isHanded_0 17 rfl rfl)
theorem dX8_isHanded_18 : decode cX8_isHanded 18 = .ok (.getfield 22, 3) := dk_180 0 22 (dk_at dksX8_isHanded_0 18 rfl rfl)
theorem dX8_isHanded_21 : decode cX8_isHanded 21 = .ok (.iconst 0, 1) := dk_3 (dk_at dksX8_isHanded_0 21 rfl rfl)
theorem dX8_isHanded_22 : decode cX8_isHanded 22 = .ok (.iaload, 1) := dk_46 (dk_at dksX8_isHanded_0 22 rfl rfl)
theorem dX8_isHanded_23 : decode cX8_isHanded 23 = .ok (.invokevirtual 347, 3) := dk_182 1 91 (dk_at dksX8_isHanded_1 0 rfl rfl)
theorem dX8_isHanded_26 : decode cX8_isHanded 26 = .ok (.ifCond .ne 8, 3) := dk_154 0 8 (dk_at dksX8_isHanded_1 3 rfl rfl)
theorem dX8_isHanded_29 : decode cX8_isHanded 29 = .ok (.aload_n 0, 1) := dk_42 (dk_at dksX8_isHanded_1 6 rfl rfl)
theorem dX8_isHanded_30 : decode cX8_isHanded 30 = .ok (.invokevirtual 268, 3) := dk_182 1 12 (dk_at dksX8_isHanded_1 7 rfl rfl)
theorem dX8_isHanded_33 : decode cX8_isHanded 33 = .ok (.return_, 1) := dk_177 (dk_at dksX8_isHanded_1 10 rfl rfl)
theorem dX8_isHanded_34 : decode cX8_isHanded 34 = .ok (.aload_n 0, 1) := dk_42 (dk_at dksX8_isHanded_1 11 rfl rfl)
theorem dX8_isHanded_35 : decode cX8_isHanded 35 = .ok (.getfield 22, 3) := dk_180 0 22 (dk_at dksX8_isHanded_1 12 rfl rfl)
theorem dX8_isHanded_38 : decode cX8_isHanded 38 = .ok (.iconst 3, 1) := dk_6 (dk_at dksX8_isHanded_1 15 rfl rfl)
theorem dX8_isHanded_39 : decode cX8_isHanded 39 = .ok (.iaload, 1) := dk_46 (dk_at dksX8_isHanded_1 16 rfl rfl)
theorem dX8_isHanded_40 : decode cX8_isHanded 40 = .ok (.aload_n 0, 1) := dk_42 (dk_at dksX8_isHanded_1 17 rfl rfl)
theorem dX8_isHanded_41 : decode cX8_isHanded 41 = .ok (.iload_n 1, 1) := dk_27 (dk_at dksX8_isHanded_1 18 rfl rfl)
theorem dX8_isHanded_42 : decode cX8_isHanded 42 = .ok (.iconst 1, 1) := dk_4 (dk_at dksX8_isHanded_1 19 rfl rfl)
theorem dX8_isHanded_43 : decode cX8_isHanded 43 = .ok (.invokevirtual 101, 3) := dk_182 0 101 (dk_at dksX8_isHanded_1 20 rfl rfl)
theorem dX8_isHanded_46 : decode cX8_isHanded 46 = .ok (.if_icmp .le 28, 3) := dk_164 0 28 (dk_at dksX8_isHanded_2 0 rfl rfl)
theorem dX8_isHanded_49 : decode cX8_isHanded 49 = .ok (.aload_n 0, 1) := dk_42 (dk_at dksX8_isHanded_2 3 rfl rfl)
theorem dX8_isHanded_50 : decode cX8_isHanded 50 = .ok (.iload_n 1, 1) := dk_27 (dk_at dksX8_isHanded_2 4 rfl rfl)
theorem dX8_isHanded_51 : decode cX8_isHanded 51 = .ok (.iconst 1, 1) := dk_4 (dk_at dksX8_isHanded_2 5 rfl rfl)
theorem dX8_isHanded_52 : decode cX8_isHanded 52 = .ok (.aload_n 0, 1) := dk_42 (dk_at dksX8_isHanded_2 6 rfl rfl)
theorem dX8_isHanded_53 : decode cX8_isHanded 53 = .ok (.getfield 22, 3) := dk_180 0 22 (dk_at dksX8_isHanded_2 7 rfl rfl)
theorem dX8_isHanded_56 : decode cX8_isHanded 56 = .ok (.iconst 3, 1) := dk_6 (dk_at dksX8_isHanded_2 10 rfl rfl)
theorem dX8_isHanded_57 : decode cX8_isHanded 57 = .ok (.iaload, 1) := dk_46 (dk_at dksX8_isHanded_2 11 rfl rfl)
theorem dX8_isHanded_58 : decode cX8_isHanded 58 = .ok (.invokevirtual 133, 3) := dk_182 0 133 (dk_at dksX8_isHanded_2 12 rfl rfl)
theorem dX8_isHanded_61 : decode cX8_isHanded 61 = .ok (.aload_n 0, 1) := dk_42 (dk_at dksX8_isHanded_2 15 rfl rfl)
theorem dX8_isHanded_62 : decode cX8_isHanded 62 = .ok (.iload_n 1, 1) := dk_27 (dk_at dksX8_isHanded_2 16 rfl rfl)
theorem dX8_isHanded_63 : decode cX8_isHanded 63 = .ok (.iconst 2, 1) := dk_5 (dk_at dksX8_isHanded_2 17 rfl rfl)
theorem dX8_isHanded_64 : decode cX8_isHanded 64 = .ok (.iconst (-1), 1) := dk_2 (dk_at dksX8_isHanded_2 18 rfl rfl)
theorem dX8_isHanded_65 : decode cX8_isHanded 65 = .ok (.invokevirtual 133, 3) := dk_182 0 133 (dk_at dksX8_isHanded_2 19 rfl rfl)
theorem dX8_isHanded_68 : decode cX8_isHanded 68 = .ok (.aload_n 0, 1) := dk_42 (dk_at dksX8_isHanded_2 22 rfl rfl)
theorem dX8_isHanded_69 : decode cX8_isHanded 69 = .ok (.iload_n 1, 1) := dk_27 (dk_at dksX8_isHanded_2 23 rfl rfl)
theorem dX8_isHanded_70 : decode cX8_isHanded 70 = .ok (.iconst (-1), 1) := dk_2 (dk_at dksX8_isHanded_3 0 rfl rfl)
theorem dX8_isHanded_71 : decode cX8_isHanded 71 = .ok (.invokevirtual 341, 3) := dk_182 1 85 (dk_at dksX8_isHanded_3 1 rfl rfl)
theorem dX8_isHanded_74 : decode cX8_isHanded 74 = .ok (.aload_n 0, 1) := dk_42 (dk_at dksX8_isHanded_3 4 rfl rfl)
theorem dX8_isHanded_75 : decode cX8_isHanded 75 = .ok (.getfield 22, 3) := dk_180 0 22 (dk_at dksX8_isHanded_3 5 rfl rfl)
theorem dX8_isHanded_78 : decode cX8_isHanded 78 = .ok (.iconst 2, 1) := dk_5 (dk_at dksX8_isHanded_3 8 rfl rfl)
theorem dX8_isHanded_79 : decode cX8_isHanded 79 = .ok (.iaload, 1) := dk_46 (dk_at dksX8_isHanded_3 9 rfl rfl)
theorem dX8_isHanded_80 : decode cX8_isHanded 80 = .ok (.tableswitch 76 0 4 #[36, 44, 52, 60, 68], 36) := by decide +kernel
theorem dX8_isHanded_116 : decode cX8_isHanded 116 = .ok (.aload_n 0, 1) := dk_42 (dk_at dksX8_isHanded_5 0 rfl rfl)
theorem dX8_isHanded_117 : decode cX8_isHanded 117 = .ok (.iload_n 1, 1) := dk_27 (dk_at dksX8_isHanded_5 1 rfl rfl)
theorem dX8_isHanded_118 : decode cX8_isHanded 118 = .ok (.invokevirtual 350, 3) := dk_182 1 94 (dk_at dksX8_isHanded_5 2 rfl rfl)
theorem dX8_isHanded_121 : decode cX8_isHanded 121 = .ok (.goto 40, 3) := dk_167 0 40 (dk_at dksX8_isHanded_5 5 rfl rfl)
theorem dX8_isHanded_124 : decode cX8_isHanded 124 = .ok (.aload_n 0, 1) := dk_42 (dk_at dksX8_isHanded_5 8 rfl rfl)
theorem dX8_isHanded_125 : decode cX8_isHanded 125 = .ok (.iload_n 1, 1) := dk_27 (dk_at dksX8_isHanded_5 9 rfl rfl)
theorem dX8_isHanded_126 : decode cX8_isHanded 126 = .ok (.invokevirtual 353, 3) := dk_182 1 97 (dk_at dksX8_isHanded_5 10 rfl rfl)
theorem dX8_isHanded_129 : decode cX8_isHanded 129 = .ok (.goto 32, 3) := dk_167 0 32 (dk_at dksX8_isHanded_5 13 rfl rfl)
theorem dX8_isHanded_132 : decode cX8_isHanded 132 = .ok (.aload_n 0, 1) := dk_42 (dk_at dksX8_isHanded_5 16 rfl rfl)
theorem dX8_isHanded_133 : decode cX8_isHanded 133 = .ok (.iload_n 1, 1) := dk_27 (dk_at dksX8_isHanded_5 17 rfl rfl)
theorem dX8_isHanded_134 : decode cX8_isHanded 134 = .ok (.invokevirtual 356, 3) := dk_182 1 100 (dk_at dksX8_isHanded_5 18 rfl rfl)
theorem dX8_isHanded_137 : decode cX8_isHanded 137 = .ok (.goto 24, 3) := dk_167 0 24 (dk_at dksX8_isHanded_5 21 rfl rfl)
theorem dX8_isHanded_140 : decode cX8_isHanded 140 = .ok (.aload_n 0, 1) := dk_42 (dk_at dksX8_isHanded_6 0 rfl rfl)
theorem dX8_isHanded_141 : decode cX8_isHanded 141 = .ok (.iload_n 1, 1) := dk_27 (dk_at dksX8_isHanded_6 1 rfl rfl)
theorem dX8_isHanded_142 : decode cX8_isHanded 142 = .ok (.invokevirtual 359, 3) := dk_182 1 103 (dk_at dksX8_isHanded_6 2 rfl rfl)
theorem dX8_isHanded_145 : decode cX8_isHanded 145 = .ok (.goto 16, 3) := dk_167 0 16 (dk_at dksX8_isHanded_6 5 rfl rfl)
theorem dX8_isHanded_148 : decode cX8_isHanded 148 = .ok (.aload_n 0, 1) := dk_42 (dk_at dksX8_isHanded_6 8 rfl rfl)
theorem dX8_isHanded_149 : decode cX8_isHanded 149 = .ok (.iload_n 1, 1) := dk_27 (dk_at dksX8_isHanded_6 9 rfl rfl)
theorem dX8_isHanded_150 : decode cX8_isHanded 150 = .ok (.invokevirtual 362, 3) := dk_182 1 106 (dk_at dksX8_isHanded_6 10 rfl rfl)
theorem dX8_isHanded_153 : decode cX8_isHanded 153 = .ok (.goto 8, 3) := dk_167 0 8 (dk_at dksX8_isHanded_6 13 rfl rfl)
theorem dX8_isHanded_156 : decode cX8_isHanded 156 = .ok (.aload_n 0, 1) := dk_42 (dk_at dksX8_isHanded_6 16 rfl rfl)
theorem dX8_isHanded_157 : decode cX8_isHanded 157 = .ok (.iload_n 1, 1) := dk_27 (dk_at dksX8_isHanded_6 17 rfl rfl)
theorem dX8_isHanded_158 : decode cX8_isHanded 158 = .ok (.invokevirtual 365, 3) := dk_182 1 109 (dk_at dksX8_isHanded_6 18 rfl rfl)
theorem dX8_isHanded_161 : decode cX8_isHanded 161 = .ok (.return_, 1) := dk_177 (dk_at dksX8_isHanded_6 21 rfl rfl)
abbrev cX8_isUp : ByteArray := prog_18_method_11_code
def yX8_isUp : MethodName := ⟨RX8, "isUp", "(I)Z"⟩
def dkwX8_isUp_0 : List UInt8 := [27, 184, 0, 97, 153, 0, 17, 42, 27, 3, 182, 0, 101, 4, 160, 0, 7, 4, 167, 0, 4, 3, 172]
abbrev dktX8_isUp_0 : List UInt8 := dkwX8_isUp_0 ++ []
theorem dksX8_isUp_0 : cX8_isUp.data.toList.drop 0 = dktX8_isUp_0 := by decide +kernel
theorem dX8_isUp_0 : decode cX8_isUp 0 = .ok (.iload_n 1, 1) := dk_27 (dk_at dksX8_isUp_0 0 rfl rfl)
theorem dX8_isUp_1 : decode cX8_isUp 1 = .ok (.invokestatic 97, 3) := dk_184 0 97 (dk_at dksX8_isUp_0 1 rfl rfl)
theorem dX8_isUp_4 : decode cX8_isUp 4 = .ok (.ifCond .eq 17, 3) := dk_153 0 17 (dk_at dksX8_isUp_0 4 rfl rfl)
theorem dX8_isUp_7 : decode cX8_isUp 7 = .ok (.aload_n 0, 1) := dk_42 (dk_at dksX8_isUp_0 7 rfl rfl)
theorem dX8_isUp_8 : decode cX8_isUp 8 = .ok (.iload_n 1, 1) := dk_27 (dk_at dksX8_isUp_0 8 rfl rfl)
theorem dX8_isUp_9 : decode cX8_isUp 9 = .ok (.iconst 0, 1) := dk_3 (dk_at dksX8_isUp_0 9 rfl rfl)
theorem dX8_isUp_10 : decode cX8_isUp 10 = .ok (.invokevirtual 101, 3) := dk_182 0 101 (dk_at dksX8_isUp_0 10 rfl rfl)
theorem dX8_isUp_13 : decode cX8_isUp 13 = .ok (.iconst 1, 1) := dk_4 (dk_at dksX8_isUp_0 13 rfl rfl)
theorem dX8_isUp_14 : decode cX8_isUp 14 = .ok (.if_icmp .ne 7, 3) := dk_160 0 7 (dk_at dksX8_isUp_0 14 rfl rfl)
theorem dX8_isUp_17 : decode cX8_isUp 17 = .ok (.iconst 1, 1) := dk_4 (dk_at dksX8_isUp_0 17 rfl rfl)
theorem dX8_isUp_18 : decode cX8_isUp 18 = .ok (.goto 4, 3) := dk_167 0 4 (dk_at dksX8_isUp_0 18 rfl rfl)
theorem dX8_isUp_21 : decode cX8_isUp 21 = .ok (.iconst 0, 1) := dk_3 (dk_at dksX8_isUp_0 21 rfl rfl)
theorem dX8_isUp_22 : decode cX8_isUp 22 = .ok (.ireturn, 1) := dk_172 (dk_at dksX8_isUp_0 22 rfl rfl)
abbrev cX8_isNode : ByteArray := prog_18_method_8_code
def yX8_isNode : MethodName := ⟨RX8, "isNode", "(I)Z"⟩
def dkwX8_isNode_0 : List UInt8 := [26, 3, 16, 6, 184, 0, 93, 172]
abbrev dktX8_isNode_0 : List UInt8 := dkwX8_isNode_0 ++ []
theorem dksX8_isNode_0 : cX8_isNode.data.toList.drop 0 = dktX8_isNode_0 := by decide +kernel
theorem dX8_isNode_0 : decode cX8_isNode 0 = .ok (.iload_n 0, 1) := dk_26 (dk_at dksX8_isNode_0 0 rfl rfl)
theorem dX8_isNode_1 : decode cX8_isNode 1 = .ok (.iconst 0, 1) := dk_3 (dk_at dksX8_isNode_0 1 rfl rfl)
theorem dX8_isNode_2 : decode cX8_isNode 2 = .ok (.bipush 6, 2) := dk_16 6 (dk_at dksX8_isNode_0 2 rfl rfl)
theorem dX8_isNode_4 : decode cX8_isNode 4 = .ok (.invokestatic 93, 3) := dk_184 0 93 (dk_at dksX8_isNode_0 4 rfl rfl)
theorem dX8_isNode_7 : decode cX8_isNode 7 = .ok (.ireturn, 1) := dk_172 (dk_at dksX8_isNode_0 7 rfl rfl)
abbrev cX8_areLinked : ByteArray := prog_18_method_78_code
def yX8_areLinked : MethodName := ⟨RX8, "areLinked", "(II)Z"⟩
def dkwX8_areLinked_0 : List UInt8 := [42, 180, 0, 7, 17, 43, 116, 27, 96, 46, 28, 184, 1, 30, 154, 0, 7, 4, 167, 0, 4, 3, 172]
abbrev dktX8_areLinked_0 : List UInt8 := dkwX8_areLinked_0 ++ []
theorem dksX8_areLinked_0 : cX8_areLinked.data.toList.drop 0 = dktX8_areLinked_0 := by decide +kernel
theorem dX8_areLinked_0 : decode cX8_areLinked 0 = .ok (.aload_n 0, 1) := dk_42 (dk_at dksX8_areLinked_0 0 rfl rfl)
theorem dX8_areLinked_1 : decode cX8_areLinked 1 = .ok (.getfield 7, 3) := dk_180 0 7 (dk_at dksX8_areLinked_0 1 rfl rfl)
theorem dX8_areLinked_4 : decode cX8_areLinked 4 = .ok (.sipush 11124, 3) := dk_17 43 116 (dk_at dksX8_areLinked_0 4 rfl rfl)
theorem dX8_areLinked_7 : decode cX8_areLinked 7 = .ok (.iload_n 1, 1) := dk_27 (dk_at dksX8_areLinked_0 7 rfl rfl)
theorem dX8_areLinked_8 : decode cX8_areLinked 8 = .ok (.iadd, 1) := dk_96 (dk_at dksX8_areLinked_0 8 rfl rfl)
theorem dX8_areLinked_9 : decode cX8_areLinked 9 = .ok (.iaload, 1) := dk_46 (dk_at dksX8_areLinked_0 9 rfl rfl)
theorem dX8_areLinked_10 : decode cX8_areLinked 10 = .ok (.iload_n 2, 1) := dk_28 (dk_at dksX8_areLinked_0 10 rfl rfl)
theorem dX8_areLinked_11 : decode cX8_areLinked 11 = .ok (.invokestatic 286, 3) := dk_184 1 30 (dk_at dksX8_areLinked_0 11 rfl rfl)
theorem dX8_areLinked_14 : decode cX8_areLinked 14 = .ok (.ifCond .ne 7, 3) := dk_154 0 7 (dk_at dksX8_areLinked_0 14 rfl rfl)
theorem dX8_areLinked_17 : decode cX8_areLinked 17 = .ok (.iconst 1, 1) := dk_4 (dk_at dksX8_areLinked_0 17 rfl rfl)
theorem dX8_areLinked_18 : decode cX8_areLinked 18 = .ok (.goto 4, 3) := dk_167 0 4 (dk_at dksX8_areLinked_0 18 rfl rfl)
theorem dX8_areLinked_21 : decode cX8_areLinked 21 = .ok (.iconst 0, 1) := dk_3 (dk_at dksX8_areLinked_0 21 rfl rfl)
theorem dX8_areLinked_22 : decode cX8_areLinked 22 = .ok (.ireturn, 1) := dk_172 (dk_at dksX8_areLinked_0 22 rfl rfl)
abbrev cX8_has : ByteArray := prog_18_method_5_code
def yX8_has : MethodName := ⟨RX8, "has", "(II)Z"⟩
def dkwX8_has_0 : List UInt8 := [26, 27, 122, 4, 126, 4, 160, 0, 7, 4, 167, 0, 4, 3, 172]
abbrev dktX8_has_0 : List UInt8 := dkwX8_has_0 ++ []
theorem dksX8_has_0 : cX8_has.data.toList.drop 0 = dktX8_has_0 := by decide +kernel
theorem dX8_has_0 : decode cX8_has 0 = .ok (.iload_n 0, 1) := dk_26 (dk_at dksX8_has_0 0 rfl rfl)
theorem dX8_has_1 : decode cX8_has 1 = .ok (.iload_n 1, 1) := dk_27 (dk_at dksX8_has_0 1 rfl rfl)
theorem dX8_has_2 : decode cX8_has 2 = .ok (.ishr, 1) := dk_122 (dk_at dksX8_has_0 2 rfl rfl)
theorem dX8_has_3 : decode cX8_has 3 = .ok (.iconst 1, 1) := dk_4 (dk_at dksX8_has_0 3 rfl rfl)
theorem dX8_has_4 : decode cX8_has 4 = .ok (.iand, 1) := dk_126 (dk_at dksX8_has_0 4 rfl rfl)
theorem dX8_has_5 : decode cX8_has 5 = .ok (.iconst 1, 1) := dk_4 (dk_at dksX8_has_0 5 rfl rfl)
theorem dX8_has_6 : decode cX8_has 6 = .ok (.if_icmp .ne 7, 3) := dk_160 0 7 (dk_at dksX8_has_0 6 rfl rfl)
theorem dX8_has_9 : decode cX8_has 9 = .ok (.iconst 1, 1) := dk_4 (dk_at dksX8_has_0 9 rfl rfl)
theorem dX8_has_10 : decode cX8_has 10 = .ok (.goto 4, 3) := dk_167 0 4 (dk_at dksX8_has_0 10 rfl rfl)
theorem dX8_has_13 : decode cX8_has 13 = .ok (.iconst 0, 1) := dk_3 (dk_at dksX8_has_0 13 rfl rfl)
theorem dX8_has_14 : decode cX8_has 14 = .ok (.ireturn, 1) := dk_172 (dk_at dksX8_has_0 14 rfl rfl)
abbrev cX8_loses : ByteArray := prog_18_method_58_code
def yX8_loses : MethodName := ⟨RX8, "loses", "()V"⟩
def dkwX8_loses_1 : List UInt8 := [177]
abbrev dktX8_loses_1 : List UInt8 := dkwX8_loses_1 ++ []
def dkwX8_loses_0 : List UInt8 := [42, 180, 0, 7, 17, 43, 129, 19, 1, 8, 42, 180, 0, 7, 17, 43, 129, 46, 4, 96, 184, 0, 115, 79]
abbrev dktX8_loses_0 : List UInt8 := dkwX8_loses_0 ++ dktX8_loses_1
theorem dksX8_loses_0 : cX8_loses.data.toList.drop 0 = dktX8_loses_0 := by decide +kernel
theorem dksX8_loses_1 : cX8_loses.data.toList.drop 24 = dktX8_loses_1 := dk_seg dksX8_loses_0 24 rfl rfl
theorem dX8_loses_0 : decode cX8_loses 0 = .ok (.aload_n 0, 1) := dk_42 (dk_at dksX8_loses_0 0 rfl rfl)
theorem dX8_loses_1 : decode cX8_loses 1 = .ok (.getfield 7, 3) := dk_180 0 7 (dk_at dksX8_loses_0 1 rfl rfl)
theorem dX8_loses_4 : decode cX8_loses 4 = .ok (.sipush 11137, 3) := dk_17 43 129 (dk_at dksX8_loses_0 4 rfl rfl)
theorem dX8_loses_7 : decode cX8_loses 7 = .ok (.ldc_w 264, 3) := dk_19 1 8 (dk_at dksX8_loses_0 7 rfl rfl)
theorem dX8_loses_10 : decode cX8_loses 10 = .ok (.aload_n 0, 1) := dk_42 (dk_at dksX8_loses_0 10 rfl rfl)
theorem dX8_loses_11 : decode cX8_loses 11 = .ok (.getfield 7, 3) := dk_180 0 7 (dk_at dksX8_loses_0 11 rfl rfl)
theorem dX8_loses_14 : decode cX8_loses 14 = .ok (.sipush 11137, 3) := dk_17 43 129 (dk_at dksX8_loses_0 14 rfl rfl)
theorem dX8_loses_17 : decode cX8_loses 17 = .ok (.iaload, 1) := dk_46 (dk_at dksX8_loses_0 17 rfl rfl)
theorem dX8_loses_18 : decode cX8_loses 18 = .ok (.iconst 1, 1) := dk_4 (dk_at dksX8_loses_0 18 rfl rfl)
theorem dX8_loses_19 : decode cX8_loses 19 = .ok (.iadd, 1) := dk_96 (dk_at dksX8_loses_0 19 rfl rfl)
theorem dX8_loses_20 : decode cX8_loses 20 = .ok (.invokestatic 115, 3) := dk_184 0 115 (dk_at dksX8_loses_0 20 rfl rfl)
theorem dX8_loses_23 : decode cX8_loses 23 = .ok (.iastore, 1) := dk_79 (dk_at dksX8_loses_0 23 rfl rfl)
theorem dX8_loses_24 : decode cX8_loses 24 = .ok (.return_, 1) := dk_177 (dk_at dksX8_loses_1 0 rfl rfl)
abbrev cX8_min : ByteArray := prog_18_method_3_code
def yX8_min : MethodName := ⟨RX8, "min", "(II)I"⟩
def dkwX8_min_0 : List UInt8 := [26, 27, 162, 0, 7, 26, 167, 0, 4, 27, 172]
abbrev dktX8_min_0 : List UInt8 := dkwX8_min_0 ++ []
theorem dksX8_min_0 : cX8_min.data.toList.drop 0 = dktX8_min_0 := by decide +kernel
theorem dX8_min_0 : decode cX8_min 0 = .ok (.iload_n 0, 1) := dk_26 (dk_at dksX8_min_0 0 rfl rfl)
theorem dX8_min_1 : decode cX8_min 1 = .ok (.iload_n 1, 1) := dk_27 (dk_at dksX8_min_0 1 rfl rfl)
theorem dX8_min_2 : decode cX8_min 2 = .ok (.if_icmp .ge 7, 3) := dk_162 0 7 (dk_at dksX8_min_0 2 rfl rfl)
theorem dX8_min_5 : decode cX8_min 5 = .ok (.iload_n 0, 1) := dk_26 (dk_at dksX8_min_0 5 rfl rfl)
theorem dX8_min_6 : decode cX8_min 6 = .ok (.goto 4, 3) := dk_167 0 4 (dk_at dksX8_min_0 6 rfl rfl)
theorem dX8_min_9 : decode cX8_min 9 = .ok (.iload_n 1, 1) := dk_27 (dk_at dksX8_min_0 9 rfl rfl)
theorem dX8_min_10 : decode cX8_min 10 = .ok (.ireturn, 1) := dk_172 (dk_at dksX8_min_0 10 rfl rfl)
abbrev cX8_follows : ByteArray := prog_18_method_66_code
def yX8_follows : MethodName := ⟨RX8, "follows", "(II)V"⟩
def dkwX8_follows_1 : List UInt8 := [16, 11, 28, 182, 0, 133, 177]
abbrev dktX8_follows_1 : List UInt8 := dkwX8_follows_1 ++ []
def dkwX8_follows_0 : List UInt8 := [42, 27, 6, 182, 0, 101, 5, 160, 0, 8, 42, 27, 182, 1, 36, 42, 27, 6, 3, 182, 0, 133, 42, 27]
abbrev dktX8_follows_0 : List UInt8 := dkwX8_follows_0 ++ dktX8_follows_1
theorem dksX8_follows_0 : cX8_follows.data.toList.drop 0 = dktX8_follows_0 := by decide +kernel
theorem dksX8_follows_1 : cX8_follows.data.toList.drop 24 = dktX8_follows_1 := dk_seg dksX8_follows_0 24 rfl rfl
theorem dX8_follows_0 : decode cX8_follows 0 = .ok (.aload_n 0, 1) := dk_42 (dk_at dksX8_follows_0 0 rfl rfl)
theorem dX8_follows_1 : decode cX8_follows 1 = .ok (.iload_n 1, 1) := dk_27 (dk_at dksX8_follows_0 1 rfl rfl)
theorem dX8_follows_2 : decode cX8_follows 2 = .ok (.iconst 3, 1) := dk_6 (dk_at dksX8_follows_0 2 rfl rfl)
theorem dX8_follows_3 : decode cX8_follows 3 = .ok (.invokevirtual 101, 3) := dk_182 0 101 (dk_at dksX8_follows_0 3 rfl rfl)
theorem dX8_follows_6 : decode cX8_follows 6 = .ok (.iconst 2, 1) := dk_5 (dk_at dksX8_follows_0 6 rfl rfl)
theorem dX8_follows_7 : decode cX8_follows 7 = .ok (.if_icmp .ne 8, 3) := dk_160 0 8 (dk_at dksX8_follows_0 7 rfl rfl)
theorem dX8_follows_10 : decode cX8_follows 10 = .ok (.aload_n 0, 1) := dk_42 (dk_at dksX8_follows_0 10 rfl rfl)
theorem dX8_follows_11 : decode cX8_follows 11 = .ok (.iload_n 1, 1) := dk_27 (dk_at dksX8_follows_0 11 rfl rfl)
theorem dX8_follows_12 : decode cX8_follows 12 = .ok (.invokevirtual 292, 3) := dk_182 1 36 (dk_at dksX8_follows_0 12 rfl rfl)
theorem dX8_follows_15 : decode cX8_follows 15 = .ok (.aload_n 0, 1) := dk_42 (dk_at dksX8_follows_0 15 rfl rfl)
theorem dX8_follows_16 : decode cX8_follows 16 = .ok (.iload_n 1, 1) := dk_27 (dk_at dksX8_follows_0 16 rfl rfl)
theorem dX8_follows_17 : decode cX8_follows 17 = .ok (.iconst 3, 1) := dk_6 (dk_at dksX8_follows_0 17 rfl rfl)
theorem dX8_follows_18 : decode cX8_follows 18 = .ok (.iconst 0, 1) := dk_3 (dk_at dksX8_follows_0 18 rfl rfl)
theorem dX8_follows_19 : decode cX8_follows 19 = .ok (.invokevirtual 133, 3) := dk_182 0 133 (dk_at dksX8_follows_0 19 rfl rfl)
theorem dX8_follows_22 : decode cX8_follows 22 = .ok (.aload_n 0, 1) := dk_42 (dk_at dksX8_follows_0 22 rfl rfl)
theorem dX8_follows_23 : decode cX8_follows 23 = .ok (.iload_n 1, 1) := dk_27 (dk_at dksX8_follows_0 23 rfl rfl)
theorem dX8_follows_24 : decode cX8_follows 24 = .ok (.bipush 11, 2) := dk_16 11 (dk_at dksX8_follows_1 0 rfl rfl)
theorem dX8_follows_26 : decode cX8_follows 26 = .ok (.iload_n 2, 1) := dk_28 (dk_at dksX8_follows_1 2 rfl rfl)
theorem dX8_follows_27 : decode cX8_follows 27 = .ok (.invokevirtual 133, 3) := dk_182 0 133 (dk_at dksX8_follows_1 3 rfl rfl)
theorem dX8_follows_30 : decode cX8_follows 30 = .ok (.return_, 1) := dk_177 (dk_at dksX8_follows_1 6 rfl rfl)
abbrev cX8_losesReads : ByteArray := prog_18_method_65_code
def yX8_losesReads : MethodName := ⟨RX8, "losesReads", "(I)V"⟩
def dkwX8_losesReads_3 : List UInt8 := [167, 255, 190, 177]
abbrev dktX8_losesReads_3 : List UInt8 := dkwX8_losesReads_3 ++ []
def dkwX8_losesReads_2 : List UInt8 := [154, 0, 19, 42, 180, 0, 7, 17, 43, 20, 16, 6, 28, 104, 96, 7, 96, 5, 79, 132, 2, 1]
abbrev dktX8_losesReads_2 : List UInt8 := dkwX8_losesReads_2 ++ dktX8_losesReads_3
def dkwX8_losesReads_1 : List UInt8 := [104, 96, 46, 27, 160, 0, 37, 42, 180, 0, 7, 17, 43, 20, 16, 6, 28, 104, 96, 7, 96, 46]
abbrev dktX8_losesReads_1 : List UInt8 := dkwX8_losesReads_1 ++ dktX8_losesReads_2
def dkwX8_losesReads_0 : List UInt8 := [3, 61, 28, 42, 180, 0, 7, 17, 43, 127, 46, 162, 0, 60, 42, 180, 0, 7, 17, 43, 20, 16, 6, 28]
abbrev dktX8_losesReads_0 : List UInt8 := dkwX8_losesReads_0 ++ dktX8_losesReads_1
theorem dksX8_losesReads_0 : cX8_losesReads.data.toList.drop 0 = dktX8_losesReads_0 := by decide +kernel
theorem dksX8_losesReads_1 : cX8_losesReads.data.toList.drop 24 = dktX8_losesReads_1 := dk_seg dksX8_losesReads_0 24 rfl rfl
theorem dksX8_losesReads_2 : cX8_losesReads.data.toList.drop 46 = dktX8_losesReads_2 := dk_seg dksX8_losesReads_1 22 rfl rfl
theorem dksX8_losesReads_3 : cX8_losesReads.data.toList.drop 68 = dktX8_losesReads_3 := dk_seg dksX8_losesReads_2 22 rfl rfl
theorem dX8_losesReads_0 : decode cX8_losesReads 0 = .ok (.iconst 0, 1) := dk_3 (dk_at dksX8_losesReads_0 0 rfl rfl)
theorem dX8_losesReads_1 : decode cX8_losesReads 1 = .ok (.istore_n 2, 1) := dk_61 (dk_at dksX8_losesReads_0 1 rfl rfl)
theorem dX8_losesReads_2 : decode cX8_losesReads 2 = .ok (.iload_n 2, 1) := dk_28 (dk_at dksX8_losesReads_0 2 rfl rfl)
theorem dX8_losesReads_3 : decode cX8_losesReads 3 = .ok (.aload_n 0, 1) := dk_42 (dk_at dksX8_losesReads_0 3 rfl rfl)
theorem dX8_losesReads_4 : decode cX8_losesReads 4 = .ok (.getfield 7, 3) := dk_180 0 7 (dk_at dksX8_losesReads_0 4 rfl rfl)
theorem dX8_losesReads_7 : decode cX8_losesReads 7 = .ok (.sipush 11135, 3) := dk_17 43 127 (dk_at dksX8_losesReads_0 7 rfl rfl)
theorem dX8_losesReads_10 : decode cX8_losesReads 10 = .ok (.iaload, 1) := dk_46 (dk_at dksX8_losesReads_0 10 rfl rfl)
theorem dX8_losesReads_11 : decode cX8_losesReads 11 = .ok (.if_icmp .ge 60, 3) := dk_162 0 60 (dk_at dksX8_losesReads_0 11 rfl rfl)
theorem dX8_losesReads_14 : decode cX8_losesReads 14 = .ok (.aload_n 0, 1) := dk_42 (dk_at dksX8_losesReads_0 14 rfl rfl)
theorem dX8_losesReads_15 : decode cX8_losesReads 15 = .ok (.getfield 7, 3) := dk_180 0 7 (dk_at dksX8_losesReads_0 15 rfl rfl)
theorem dX8_losesReads_18 : decode cX8_losesReads 18 = .ok (.sipush 11028, 3) := dk_17 43 20 (dk_at dksX8_losesReads_0 18 rfl rfl)
theorem dX8_losesReads_21 : decode cX8_losesReads 21 = .ok (.bipush 6, 2) := dk_16 6 (dk_at dksX8_losesReads_0 21 rfl rfl)
theorem dX8_losesReads_23 : decode cX8_losesReads 23 = .ok (.iload_n 2, 1) := dk_28 (dk_at dksX8_losesReads_0 23 rfl rfl)
theorem dX8_losesReads_24 : decode cX8_losesReads 24 = .ok (.imul, 1) := dk_104 (dk_at dksX8_losesReads_1 0 rfl rfl)
theorem dX8_losesReads_25 : decode cX8_losesReads 25 = .ok (.iadd, 1) := dk_96 (dk_at dksX8_losesReads_1 1 rfl rfl)
theorem dX8_losesReads_26 : decode cX8_losesReads 26 = .ok (.iaload, 1) := dk_46 (dk_at dksX8_losesReads_1 2 rfl rfl)
theorem dX8_losesReads_27 : decode cX8_losesReads 27 = .ok (.iload_n 1, 1) := dk_27 (dk_at dksX8_losesReads_1 3 rfl rfl)
theorem dX8_losesReads_28 : decode cX8_losesReads 28 = .ok (.if_icmp .ne 37, 3) := dk_160 0 37 (dk_at dksX8_losesReads_1 4 rfl rfl)
theorem dX8_losesReads_31 : decode cX8_losesReads 31 = .ok (.aload_n 0, 1) := dk_42 (dk_at dksX8_losesReads_1 7 rfl rfl)
theorem dX8_losesReads_32 : decode cX8_losesReads 32 = .ok (.getfield 7, 3) := dk_180 0 7 (dk_at dksX8_losesReads_1 8 rfl rfl)
theorem dX8_losesReads_35 : decode cX8_losesReads 35 = .ok (.sipush 11028, 3) := dk_17 43 20 (dk_at dksX8_losesReads_1 11 rfl rfl)
theorem dX8_losesReads_38 : decode cX8_losesReads 38 = .ok (.bipush 6, 2) := dk_16 6 (dk_at dksX8_losesReads_1 14 rfl rfl)
theorem dX8_losesReads_40 : decode cX8_losesReads 40 = .ok (.iload_n 2, 1) := dk_28 (dk_at dksX8_losesReads_1 16 rfl rfl)
theorem dX8_losesReads_41 : decode cX8_losesReads 41 = .ok (.imul, 1) := dk_104 (dk_at dksX8_losesReads_1 17 rfl rfl)
theorem dX8_losesReads_42 : decode cX8_losesReads 42 = .ok (.iadd, 1) := dk_96 (dk_at dksX8_losesReads_1 18 rfl rfl)
theorem dX8_losesReads_43 : decode cX8_losesReads 43 = .ok (.iconst 4, 1) := dk_7 (dk_at dksX8_losesReads_1 19 rfl rfl)
theorem dX8_losesReads_44 : decode cX8_losesReads 44 = .ok (.iadd, 1) := dk_96 (dk_at dksX8_losesReads_1 20 rfl rfl)
theorem dX8_losesReads_45 : decode cX8_losesReads 45 = .ok (.iaload, 1) := dk_46 (dk_at dksX8_losesReads_1 21 rfl rfl)
theorem dX8_losesReads_46 : decode cX8_losesReads 46 = .ok (.ifCond .ne 19, 3) := dk_154 0 19 (dk_at dksX8_losesReads_2 0 rfl rfl)
theorem dX8_losesReads_49 : decode cX8_losesReads 49 = .ok (.aload_n 0, 1) := dk_42 (dk_at dksX8_losesReads_2 3 rfl rfl)
theorem dX8_losesReads_50 : decode cX8_losesReads 50 = .ok (.getfield 7, 3) := dk_180 0 7 (dk_at dksX8_losesReads_2 4 rfl rfl)
theorem dX8_losesReads_53 : decode cX8_losesReads 53 = .ok (.sipush 11028, 3) := dk_17 43 20 (dk_at dksX8_losesReads_2 7 rfl rfl)
theorem dX8_losesReads_56 : decode cX8_losesReads 56 = .ok (.bipush 6, 2) := dk_16 6 (dk_at dksX8_losesReads_2 10 rfl rfl)
theorem dX8_losesReads_58 : decode cX8_losesReads 58 = .ok (.iload_n 2, 1) := dk_28 (dk_at dksX8_losesReads_2 12 rfl rfl)
theorem dX8_losesReads_59 : decode cX8_losesReads 59 = .ok (.imul, 1) := dk_104 (dk_at dksX8_losesReads_2 13 rfl rfl)
theorem dX8_losesReads_60 : decode cX8_losesReads 60 = .ok (.iadd, 1) := dk_96 (dk_at dksX8_losesReads_2 14 rfl rfl)
theorem dX8_losesReads_61 : decode cX8_losesReads 61 = .ok (.iconst 4, 1) := dk_7 (dk_at dksX8_losesReads_2 15 rfl rfl)
theorem dX8_losesReads_62 : decode cX8_losesReads 62 = .ok (.iadd, 1) := dk_96 (dk_at dksX8_losesReads_2 16 rfl rfl)
theorem dX8_losesReads_63 : decode cX8_losesReads 63 = .ok (.iconst 2, 1) := dk_5 (dk_at dksX8_losesReads_2 17 rfl rfl)
theorem dX8_losesReads_64 : decode cX8_losesReads 64 = .ok (.iastore, 1) := dk_79 (dk_at dksX8_losesReads_2 18 rfl rfl)
theorem dX8_losesReads_65 : decode cX8_losesReads 65 = .ok (.iinc 2 1, 3) := dk_132 2 1 (dk_at dksX8_losesReads_2 19 rfl rfl)
theorem dX8_losesReads_68 : decode cX8_losesReads 68 = .ok (.goto (-66), 3) := dk_167 255 190 (dk_at dksX8_losesReads_3 0 rfl rfl)
theorem dX8_losesReads_71 : decode cX8_losesReads 71 = .ok (.return_, 1) := dk_177 (dk_at dksX8_losesReads_3 3 rfl rfl)
